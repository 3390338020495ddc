set_option maxRecDepth 100000
/-! THE READER: read() -/
section RL
variable {l : Launch} {G : GG} {d r z0 : Nat} {c : RC} {h0 : AH} {P : Option Value → AH → Nat → Prop} {PX : Nat → AH → Nat → Prop}
theorem r_readL (hl : l.stackTraces = false) (hd : 41 ≤ d) (hz : r < z0 ∧ c.1 + 1 < z0) (hN : G.2.2.1.size ≤ z0) {R : PT} (hp : PTd G r z0 h0 R P PX) : ∀ (f k : Nat) (ls : List Line9) (F : Nat → Int32) (h : AH) (z la : Nat), IsRd G r c F h → AtT c F k → FrN r z0 h0 h → z0 ≤ z → LsI G z0 z h la ls → ls.length ≤ 16 → c.2.1 - k + 1 ≤ f → R = pTxt c.2.2.1 c.2.1 f ls k → X l G mX4_read (rmK d (MCr c.2.1) (MSr c.2.1)) (TGx G P PX (MCr c.2.1) (MSr c.2.1)) (1 + 2 * k + 3 * ls.length) (3 + 12 * k + 32 * ls.length) 12 [(0, .ref r), (1, .ref la)] [] h z := by
  intro f
  induction f with
  | zero => intro k ls F h z la _ _ _ _ _ _ hf; exact absurd hf (by omega)
  | succ f ih =>
  intro k ls F h z la hr hk hf hz0 hL hlen hfu hR
  have hkn : k ≤ c.2.1 := hk.2.2.2.2
  have hR2 := hR
  unfold pTxt at hR2
  obtain ⟨mc, ea, f9, hlo, -⟩ := hL.2.2
  have hla1 := hL.1
  have hla2 := hL.2.1
  refine X.walk wkX4_read (fcons (ceV c_size moSize ckX4_162 rfl rcSize (by omega) rfl) fnil) (RetOk.x (by unfold MCr; omega) (by unfold MSr; omega)) ⟨by show 1 + 2 * k + 3 * ls.length ≤ MCr c.2.1; unfold MCr; omega, by show 3 + 12 * k + 32 * ls.length ≤ MSr c.2.1; unfold MSr; omega⟩ [28, 50, 63] 12 rfl ?_
  refine gF hr.obj ?_
  refine And.intro (fun b16 => ?_) (fun b16 => ?_)
  · simp only [cP, cN, bI_0, Bool.not_eq_false, lt_nle, Decidable.not_not] at b16
    have h0K := hk.tc.en.mp b16
    have hw : ¬ wrd c.2.2.1 c.2.1 k 0 = true := fun q => by have := (wrd_K q).1; rw [h0K] at this; exact absurd this (by decide)
    rw [if_neg hw, if_pos h0K] at hR2
    exact hp.1 ls hR2 hlen la h z hf hz0 hla1 (hL.law hlen)
  simp only [cP, cN, bI_0, Bool.not_eq_false, lt_nle, Decidable.not_not] at b16
  refine gF hr.obj ?_
  refine And.intro (fun b25 => ?_) (fun b25 => ?_)
  rotate_left 1
  · simp only [cP, cN, bI_0, Bool.not_eq_false, lt_nle, Decidable.not_not] at b25
    rw [if_neg (show ¬ wrd c.2.2.1 c.2.1 k 0 = true from fun q => b25 (hk.tc.grow.mpr q)), if_neg (fun q => b16 (hk.tc.en.mpr q))] at hR2
    refine X.thrF hl rfl pkX4_read rfl rfl rfl rfl rfl rfl rfl rfl rfl hr.obj rfl (by show 1 + 2 * k + 3 * ls.length + 1 ≤ MCr c.2.1; unfold MCr; omega) (by show 3 + 12 * k + 32 * ls.length + 8 ≤ MSr c.2.1; unfold MSr; omega) (by show 6 ≤ d; omega) (by show 300 ≤ 40 * d; omega) ?_
    intro fs hfs
    refine XThr.out ?_ ahU_s (by unfold MCr; omega) (by unfold MSr; omega)
    rw [hk.2.1]
    exact hp.2 _ hR2 _ _ _ ⟨hf.tr (FrN.al hz0), fs, hfs, ahU_s⟩
  simp only [cP, cN, bI_0, Bool.not_eq_false, lt_nle, Decidable.not_not] at b25
  have hw := hk.tc.grow.mp b25
  replace hw : wrd c.2.2.1 c.2.1 k 0 = true := hw
  rw [if_pos hw] at hR2
  have ha := wrd_adv hkn hw
  refine Exists.intro _ (Exists.intro _ (Exists.intro _ (And.intro hlo ?_)))
  refine And.intro (fun b47 => ?_) (fun b47 => ?_)
  rotate_left 1
  · simp only [cP, cN, bI_0, Bool.not_eq_false, lt_nle, Decidable.not_not] at b47
    replace b47 : nI ls.length = 16 := b47
    have e16 : ls.length = 16 := by rw [show (16 : Int32) = nI 16 from rfl, nI_eq (by omega) (by decide)] at b47; exact b47
    rw [if_pos e16] at hR2
    refine X.thrF hl rfl pkX4_read rfl rfl rfl rfl rfl rfl rfl rfl rfl hr.obj rfl (by show 1 + 2 * k + 3 * ls.length + 1 ≤ MCr c.2.1; unfold MCr; omega) (by show 3 + 12 * k + 32 * ls.length + 8 ≤ MSr c.2.1; unfold MSr; omega) (by show 6 ≤ d; omega) (by show 300 ≤ 40 * d; omega) ?_
    intro fs hfs
    refine XThr.out ?_ ahU_s (by unfold MCr; omega) (by unfold MSr; omega)
    rw [hk.2.1]
    exact hp.2 _ hR2 _ _ _ ⟨hf.tr (FrN.al hz0), fs, hfs, ahU_s⟩
  simp only [cP, cN, bI_0, Bool.not_eq_false, lt_nle, Decidable.not_not] at b47
  replace b47 : ¬ nI ls.length = 16 := b47
  have n16 : ¬ ls.length = 16 := fun q => b47 (by rw [q]; rfl)
  rw [if_neg n16] at hR2
  refine X.walk wkX4_read (fcons (ceV r_next rmV0 ckX4_106 rfl rrV0 (by omega) rfl) fnil) RetOk.no ⟨by show 1 + 2 * k + 3 * ls.length ≤ MCr c.2.1; unfold MCr; omega, by show 3 + 12 * k + 32 * ls.length ≤ MSr c.2.1; unfold MSr; omega⟩ [75] 8 rfl ?_
  refine pF0 (okV_W rfl) hr.obj (Nat.le_of_ble_eq_true rfl) hr.N ?_
  intro h1 e1
  have hf1 : FrR r h h1 := FrR.rf.u e1
  have hr1 := hr.u e1 rfl
  refine Exists.intro _ (Exists.intro _ (Exists.intro _ (And.intro hr1 (And.intro hk.nx ?_))))
  intro F2 h2 p2 hr2 hf2
  obtain ⟨hk2, h24⟩ := AtT.of p2 hk.nx.2
  have h24 : F2 4 = nI 0 := h24
  replace hf2 := hf1.tr hf2
  have hg1 := pSum_g (t := c.2.2.1) (n := c.2.1) (k := tN c.2.2.1 c.2.1 k) ha.2
  have hfit := cC_le (n := c.2.1) (k := tN c.2.2.1 c.2.1 k) (R := pSum c.2.2.1 c.2.1 (tN c.2.2.1 c.2.1 k)) (fun d k2 q => (hg1 d k2 q).2.1)
  refine X.callVX (d' := d - 1) (As := []) (rest := []) ckX4_156 q545 pkX4_read rfl (r_sum2 l G (d - 1) r z (tN c.2.2.1 c.2.1 k) c F2 h2 (fun v h' z' => ∃ cd k2, pSum c.2.2.1 c.2.1 (tN c.2.2.1 c.2.1 k) = .inr (cd, k2) ∧ ∃ tm2 F3, v = some (.ref tm2) ∧ TmR G r c F2 z h2 cd k2 tm2 F3 h' z') (fun q h' z' => ∃ e, pSum c.2.2.1 c.2.1 (tN c.2.2.1 c.2.1 k) = .inl e ∧ FlR r z h2 e q h') hl (by omega) hr2 hk2 (by omega) ⟨fun cd k2 e tm2 F3 h' z' q => ⟨cd, k2, e, tm2, F3, rfl, q⟩, fun e q a h' z' q2 => ⟨e, q, q2⟩⟩) hr2.obj rfl rfl rfl (Fit.K (by omega) (by decide) (by unfold MCr; omega) (by unfold MSr; omega)) (Nat.le_of_ble_eq_true rfl) ?_ ?_
  rotate_left 1
  · intro q h3 z3 fs hq hfs
    obtain ⟨e, hu, hfl⟩ := hq
    rw [hu] at hR2
    exact XThr.out (hp.2 e hR2 q h3 z3 ⟨(hf.tr hf2.n).tr (hfl.1.le hz0), hfl.2⟩) hfs (by unfold MCr; omega) (by unfold MSr; omega)
  intro v h3 z3 hq
  obtain ⟨cd, k3, hu, tm, F3, rfl, w⟩ := hq
  rw [hu] at hR2 hfit ⊢
  dsimp only at hR2
  have hg := hg1 cd k3 hu
  obtain ⟨hr3, hk3, h34, hf3, hz3, hNT⟩ := w
  have hfa : FrN r z h h3 := hf2.n.tr hf3
  have hL3 : LsI G z0 z3 h3 la ls := hL.fr hfa hz.1 hz3
  have htm : IsTm (cutz z0 z3 h3) DEP tm cd := by
    have q := NT.fr (y0 := z0) (y1 := z3) (r := r) hNT (h' := h3) FrN.rf (by omega) hz0 (Nat.le_refl _)
    exact IsTm.le q (by unfold DEP; have := hr.ln.2; omega)
  have hc0 : cC c.2.1 (tN c.2.2.1 c.2.1 k) (.inr (cd, k3)) = 2 * (k3 - tN c.2.2.1 c.2.1 k) := rfl
  have hs0 : cS c.2.1 (tN c.2.2.1 c.2.1 k) (.inr (cd, k3)) = 12 * (k3 - tN c.2.2.1 c.2.1 k) := rfl
  rw [hc0, hs0] at hfit ⊢
  have hf03 : FrN r z0 h0 h3 := hf.tr (hfa.le hz0)
  refine X.walk wkX4_read (fcons (ceV r_next rmV0 ckX4_106 rfl rrV0 (by omega) rfl) fnil) RetOk.no ⟨by show 1 + 2 * k + 3 * ls.length + 2 * (k3 - tN c.2.2.1 c.2.1 k) ≤ MCr c.2.1; unfold MCr; omega, by show 3 + 12 * k + 32 * ls.length + 12 * (k3 - tN c.2.2.1 c.2.1 k) ≤ MSr c.2.1; unfold MSr; omega⟩ [96, 92] 8 rfl ?_
  refine gF hr3.obj ?_
  refine And.intro (fun b84 => ?_) (fun b84 => ?_)
  · simp only [cP, cN, bI_0, Bool.not_eq_false, lt_nle, Decidable.not_not] at b84
    rw [if_neg (show ¬ wrd c.2.2.1 c.2.1 k3 1 = true from fun q => b84 (hk3.tc.when_.mpr q))] at hR2
    refine r_readT hl hd hz hN hp (k := k3) (f := f) (w := none) hr3 hk3 hf03 (by omega) hL3 (by omega) htm (Or.inl ⟨rfl, rfl⟩) hR2 (by omega) (by omega) ?_
    intro j1 j2 F4 h4 z4 q1 q2 q3 q4 q5 q6
    have := ih (tN c.2.2.1 c.2.1 k3) (ls ++ [(cd, none)]) F4 h4 z4 la q1 q2 q3 q4 q5 (by simp; omega) (by omega) q6
    rw [show (ls ++ [(cd, (none : Option Code9))]).length = ls.length + 1 from by simp] at this
    exact this
  simp only [cP, cN, bI_0, Bool.not_eq_false, lt_nle, Decidable.not_not] at b84
  have hw2 : wrd c.2.2.1 c.2.1 k3 1 = true := hk3.tc.when_.mp b84
  rw [if_pos hw2] at hR2
  have ha3 := wrd_adv hg.2.1 hw2
  refine Exists.intro _ (Exists.intro _ (Exists.intro _ (And.intro hr3 (And.intro hk3.nx ?_))))
  intro F4 h4 p4 hr4 hf4
  obtain ⟨hk4, h44⟩ := AtT.of p4 hk3.nx.2
  have h44 : F4 4 = nI 0 := by rw [h44, h34, h24]
  have hg2 := pAny_g (t := c.2.2.1) (n := c.2.1) (k := tN c.2.2.1 c.2.1 k3) ha3.2
  have hfit2 := cC_le (n := c.2.1) (k := tN c.2.2.1 c.2.1 k3) (R := pAny c.2.2.1 c.2.1 (tN c.2.2.1 c.2.1 k3)) (fun d k2 q => (hg2 d k2 q).2.1)
  have hany := r_any0 (f := 4 * c.2.1 + 8) l G (d - 1) r z3 (tN c.2.2.1 c.2.1 k3) c F4 h4 (fun v h' z' => ∃ cd k2, pAny c.2.2.1 c.2.1 (tN c.2.2.1 c.2.1 k3) = .inr (cd, k2) ∧ ∃ tm2 F3, v = some (.ref tm2) ∧ TmR G r c F4 z3 h4 cd k2 tm2 F3 h' z') (fun q h' z' => ∃ e, pAny c.2.2.1 c.2.1 (tN c.2.2.1 c.2.1 k3) = .inl e ∧ FlR r z3 h4 e q h') hl (by omega) hr4 hk4 (by omega) h44 (by omega) ⟨fun cd k2 e tm2 F3 h' z' q => ⟨cd, k2, e, tm2, F3, rfl, q⟩, fun e q a h' z' q2 => ⟨e, q, q2⟩⟩
  refine X.callVX (d' := d - 1) (As := []) (rest := []) ckX4_150 q600 pkX4_read rfl hany hr4.obj rfl rfl rfl (Fit.K (by omega) (by decide) (by show _ + cC c.2.1 (tN c.2.2.1 c.2.1 k3) (pAny c.2.2.1 c.2.1 (tN c.2.2.1 c.2.1 k3)) ≤ _; unfold MCr; omega) (by show _ + cS c.2.1 (tN c.2.2.1 c.2.1 k3) (pAny c.2.2.1 c.2.1 (tN c.2.2.1 c.2.1 k3)) ≤ _; unfold MSr; omega)) (Nat.le_of_ble_eq_true rfl) ?_ ?_
  rotate_left 1
  · intro q h5 z5 fs hq hfs
    obtain ⟨e, hu2, hfl⟩ := hq
    rw [hu2] at hR2
    exact XThr.out (hp.2 e hR2 q h5 z5 ⟨(hf03.tr hf4.n).tr (hfl.1.le (by omega)), hfl.2⟩) hfs (by show _ + cC c.2.1 (tN c.2.2.1 c.2.1 k3) (pAny c.2.2.1 c.2.1 (tN c.2.2.1 c.2.1 k3)) ≤ _; unfold MCr; omega) (by show _ + cS c.2.1 (tN c.2.2.1 c.2.1 k3) (pAny c.2.2.1 c.2.1 (tN c.2.2.1 c.2.1 k3)) ≤ _; unfold MSr; omega)
  intro v h5 z5 hq
  obtain ⟨cw, k5, hu2, tw, F5, rfl, w⟩ := hq
  obtain ⟨hr5, hk5, h54, hf5, hz5, hNT5⟩ := w
  have hg5 := hg2 cw k5 hu2
  change X l G mX4_read (rmK d (MCr c.2.1) (MSr c.2.1)) (TGx G P PX (MCr c.2.1) (MSr c.2.1)) (1 + 2 * k + 3 * ls.length + 2 * (k3 - tN c.2.2.1 c.2.1 k) + cC c.2.1 (tN c.2.2.1 c.2.1 k3) (pAny c.2.2.1 c.2.1 (tN c.2.2.1 c.2.1 k3))) (3 + 12 * k + 32 * ls.length + 12 * (k3 - tN c.2.2.1 c.2.1 k) + cS c.2.1 (tN c.2.2.1 c.2.1 k3) (pAny c.2.2.1 c.2.1 (tN c.2.2.1 c.2.1 k3))) _ _ _ _ _
  rw [hu2] at hR2 hfit2 ⊢
  dsimp only at hR2
  have hc1 : cC c.2.1 (tN c.2.2.1 c.2.1 k3) (.inr (cw, k5)) = 2 * (k5 - tN c.2.2.1 c.2.1 k3) := rfl
  have hs1 : cS c.2.1 (tN c.2.2.1 c.2.1 k3) (.inr (cw, k5)) = 12 * (k5 - tN c.2.2.1 c.2.1 k3) := rfl
  rw [hc1, hs1] at hfit2 ⊢
  have hfb : FrN r z3 h3 h5 := hf4.n.tr hf5
  have hL5 : LsI G z0 z5 h5 la ls := hL3.fr hfb hz.1 hz5
  have hz03 : z0 ≤ z3 := by omega
  have htm5 : IsTm (cutz z0 z5 h5) DEP tm cd := IsTm.mh (cutz_fr hfb hz.1 hz5) htm
  have htw : IsTm (cutz z0 z5 h5) DEP tw cw := by
    have q := NT.fr (y0 := z0) (y1 := z5) (r := r) hNT5 (h' := h5) FrN.rf (by omega) hz03 (Nat.le_refl _)
    exact IsTm.le q (by unfold DEP; have := hr.ln.2; omega)
  refine X.walk wkX4_read fnil RetOk.no ⟨by show 1 + 2 * k + 3 * ls.length + 2 * (k3 - tN c.2.2.1 c.2.1 k) + 2 * (k5 - tN c.2.2.1 c.2.1 k3) ≤ MCr c.2.1; unfold MCr; omega, by show 3 + 12 * k + 32 * ls.length + 12 * (k3 - tN c.2.2.1 c.2.1 k) + 12 * (k5 - tN c.2.2.1 c.2.1 k3) ≤ MSr c.2.1; unfold MSr; omega⟩ [96] 1 rfl ?_
  refine r_readT hl hd hz hN hp (k := k5) (f := f) (w := some cw) hr5 hk5 (hf03.tr (hfb.le hz03)) (by omega) hL5 (by omega) htm5 (Or.inr ⟨cw, tw, rfl, rfl, htw⟩) hR2 (by omega) (by omega) ?_
  intro j1 j2 F6 h6 z6 q1 q2 q3 q4 q5 q6
  have := ih (tN c.2.2.1 c.2.1 k5) (ls ++ [(cd, some cw)]) F6 h6 z6 la q1 q2 q3 q4 q5 (by simp; omega) (by omega) q6
  rw [show (ls ++ [(cd, some cw)]).length = ls.length + 1 from by simp] at this
  exact this
/-- read(): a reader just made -/
theorem r_read (hl : l.stackTraces = false) (hd : 42 ≤ d) (hz : r < z0 ∧ c.1 + 1 < z0) {F : Nat → Int32} (hr : IsRd G r c F h0) (hF : F 0 = nI 0) (hp : PTd G r z0 h0 (pTxt c.2.2.1 c.2.1 (c.2.1 + 1) [] 0) P PX) : CtX l G mX4_read d (MCr c.2.1) (MSr c.2.1) [.ref r] h0 z0 P PX := by
  have hN : G.2.2.1.size ≤ z0 := by have := hr.N; omega
  refine CtX.of rfl (Nat.le_of_ble_eq_true rfl) rfl ?_
  refine X.newO (ci := 11) (fs := [.int 0, .null, .int 0]) tyJ2 pkX4_read rfl in_J2 tyJ2_ok q380 q137 q95 rfl (fun j hj => by match j, hj with | 0, _ => rfl | 1, _ => rfl | 2, _ => rfl) (by show 0 + 1 ≤ MCr c.2.1; unfold MCr; omega) (by show 0 + 3 ≤ MSr c.2.1; unfold MSr; omega) ?_
  intro h1 e1
  have hr1 : IsRd G r c F h1 := by rw [e1]; exact hr.al hz
  refine X.walk wkX4_read fnil RetOk.no ⟨by show 0 + 1 ≤ MCr c.2.1; unfold MCr; omega, by show 0 + 3 ≤ MSr c.2.1; unfold MSr; omega⟩ [4] 1 rfl ?_
  refine X.callI (As := []) (rest := [.ref z0]) ckX4_161 pkX4_read rfl (c_lstInit (d := d - 1) (P := fun v h' z' => v = none ∧ h' = ahU h1 z0 (.inr (11, lsF 0 (G.2.2.2 0) 0)) ∧ z' = z0 + 1) (by omega) hN (by rw [e1]; exact ahU_s) (fun h' e => ⟨rfl, e, rfl⟩)) rfl rfl (Fit.K (by omega) (by decide) (by unfold MCr; omega) (by unfold MSr; omega)) (Nat.le_of_ble_eq_true rfl) ?_
  intro v h2 z2 hq
  obtain ⟨rfl, e2, rfl⟩ := hq
  have hr2 : IsRd G r c F h2 := by rw [e2]; exact hr1.al hz
  refine X.walk wkX4_read (fcons (ceV r_next rmV0 ckX4_106 rfl rrV0 (by omega) rfl) fnil) RetOk.no ⟨by show 0 + 1 + 0 ≤ MCr c.2.1; unfold MCr; omega, by show 0 + 3 + 0 ≤ MSr c.2.1; unfold MSr; omega⟩ [12] 3 rfl ?_
  refine Exists.intro _ (Exists.intro _ (Exists.intro _ (And.intro hr2 (And.intro ⟨hF, Nat.zero_le _⟩ ?_))))
  intro F3 h3 p3 hr3 hf3
  obtain ⟨hk3, -⟩ := AtT.of p3 (Nat.zero_le _)
  have hf2 : FrN r z0 h0 h2 := by
    refine FrN.tr (h1 := h1) ?_ ?_
    · rw [e1]; exact FrN.al (Nat.le_refl _)
    · rw [e2]; exact FrN.al (Nat.le_refl _)
  have hL : LsI G z0 (z0 + 1) h3 z0 [] := ⟨Nat.le_refl _, by omega, 0, G.2.2.2 0, fun _ => none, by rw [hf3 z0 (by omega), e2]; exact ahU_s, Or.inl ⟨rfl, rfl⟩, fun i q hq => by simp at hq⟩
  have h9 := r_readL (d := d) hl (by omega) hz hN hp (c.2.1 + 1) 0 [] F3 h3 (z0 + 1) z0 hr3 hk3 (hf2.tr hf3.n) (by omega) hL (Nat.zero_le _) (by omega) rfl
  exact h9
end RL
