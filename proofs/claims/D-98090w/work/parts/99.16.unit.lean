set_option maxRecDepth 100000
/-! THE READER: terms made; unit -/
def FrN (r z : Nat) (h h' : AH) : Prop := ∀ a, a < z → a ≠ r → h' a = h a
def cutz (z0 z1 : Nat) (h : AH) : AH := fun a => if z0 ≤ a ∧ a < z1 then h a else none
def NT (h : AH) (z0 z1 tm : Nat) (cd : Code9) : Prop := IsTm (cutz z0 z1 h) cd.length tm cd
def TmR (G : GG) (r : Nat) (c : RC) (F : Nat → Int32) (z : Nat) (h : AH) (cd : Code9) (k2 tm : Nat) (F' : Nat → Int32) (h' : AH) (z' : Nat) : Prop := IsRd G r c F' h' ∧ AtT c F' k2 ∧ F' 4 = F 4 ∧ FrN r z h h' ∧ z ≤ z' ∧ NT h' z z' tm cd
def FlR (r z : Nat) (h : AH) (e : Int32 × Nat) (q : Nat) (h' : AH) : Prop := FrN r z h h' ∧ ∃ fs : List Value, fs.length = 8 ∧ h' q = some (.inr (5, (fs.set 6 (.int e.1)).set 7 (.int (nI e.2))))
def cC (n k : Nat) : PR → Nat
  | .inl _ => 2 * (n - k) + 2
  | .inr q => 2 * (q.2 - k)
def cS (n k : Nat) : PR → Nat
  | .inl _ => 12 * (n - k) + 12
  | .inr q => 12 * (q.2 - k)
def PRd (G : GG) (r : Nat) (c : RC) (F : Nat → Int32) (z : Nat) (h : AH) (res : PR) (P : Option Value → AH → Nat → Prop) (PX : Nat → AH → Nat → Prop) : Prop := (∀ cd k2, res = .inr (cd, k2) → ∀ tm F' h' z', TmR G r c F z h cd k2 tm F' h' z' → P (some (.ref tm)) h' z') ∧ (∀ e, res = .inl e → ∀ q h' z', FlR r z h e q h' → PX q h' z')
/-- the method M reads what p says -/
def PCt (M : Mth) (p : (Nat → Int32) → Nat → Nat → PR) (D : Nat) : Prop := ∀ (l : Launch) (G : GG) (d r z k : Nat) (c : RC) (F : Nat → Int32) (h : AH) (P : Option Value → AH → Nat → Prop) (PX : Nat → AH → Nat → Prop), l.stackTraces = false → D ≤ d → IsRd G r c F h → AtT c F k → (r < z ∧ c.1 + 1 < z) → PRd G r c F z h (p c.2.2.1 c.2.1 k) P PX → CtX l G M d (cC c.2.1 k (p c.2.2.1 c.2.1 k)) (cS c.2.1 k (p c.2.2.1 c.2.1 k)) [.ref r] h z P PX
theorem IsRd.al {G : GG} {r : Nat} {c : RC} {F : Nat → Int32} {h : AH} (w : IsRd G r c F h) {z : Nat} (hz : r < z ∧ c.1 + 1 < z) {e : va_E} : IsRd G r c F (ahU h z e) :=
  ⟨w.1, w.2.1, by rw [ahU_n (by omega)]; exact w.obj, by rw [ahU_n (by omega)]; exact w.xo, by rw [ahU_n (by omega)]; exact w.tp, w.ln.1, w.ln.2, w.by_⟩
theorem FrN.rf {r z : Nat} {h : AH} : FrN r z h h := fun _ _ _ => rfl
theorem FrN.tr {r z : Nat} {h h1 h2 : AH} (p : FrN r z h h1) (q : FrN r z h1 h2) : FrN r z h h2 := fun a h1 h2 => (q a h1 h2).trans (p a h1 h2)
theorem FrN.le {r z z' : Nat} {h h1 : AH} (p : FrN r z' h h1) (hz : z ≤ z') : FrN r z h h1 := fun a h1 h2 => p a (by omega) h2
theorem FrN.al {r z z' : Nat} {h : AH} (hz : z ≤ z') {e : va_E} : FrN r z h (ahU h z' e) := fun a h1 _ => ahU_n (by omega)
theorem FrR.n {r z : Nat} {h h1 : AH} (p : FrR r h h1) : FrN r z h h1 := fun a _ h2 => p a h2
theorem IsTm.mh {h h' : AH} (m : ∀ a e, h a = some e → h' a = some e) {n a : Nat} {c : Code9} (w : IsTm h n a c) : IsTm h' n a c := w.imm (fun a ci fs _ q => m a _ q)
theorem NT.fr {h h' : AH} {r z0 z1 y0 y1 tm : Nat} {cd : Code9} (w : NT h z0 z1 tm cd) (hf : FrN r z1 h h') (hr : r < z0) (h0 : y0 ≤ z0) (h1 : z1 ≤ y1) : NT h' y0 y1 tm cd := by
  refine IsTm.mh (fun a e q => ?_) w
  unfold cutz at q ⊢
  by_cases g : z0 ≤ a ∧ a < z1
  · rw [if_pos g] at q
    rw [if_pos (by omega), hf a g.2 (by omega)]
    exact q
  · rw [if_neg g] at q
    cases q
theorem run_all {p : Int32 → Bool} {t : Nat → Int32} {n : Nat} : ∀ {d k : Nat}, n - k = d → ∀ x, k ≤ x → x < runE p t n k → p (chr t n x) = true
  | 0, k, hd, x, h1, h2 => by
    unfold runE at h2
    rw [hd] at h2
    exact absurd h2 (by show ¬ x < k; omega)
  | d + 1, k, hd, x, h1, h2 => by
    cases h : p (chr t n k) with
    | false => rw [run_f h] at h2; omega
    | true =>
      by_cases e : x = k
      · rw [e]; exact h
      · rw [run_t (by omega) h] at h2
        exact run_all (d := d) (by omega) x (by omega) h2
theorem tV_nn {t : Nat → Int32} {n k : Nat} (hk : k ≤ n) (h : tK t n k = 3) : ∃ v, v < 10000 ∧ tV t n k = nI v := by
  unfold tK at h
  unfold tV
  have h1 : k ≤ stP t n k ∧ stP t n k ≤ n := run_le rfl hk
  generalize stP t n k = s at h h1
  obtain ⟨g1, g2, g3⟩ := tkK3 h
  have hs := chr_lt (p := digB) (by decide) g1
  have e : tkN t n s = runE digB t n (s + 1) := by
    unfold tkN
    rw [if_neg (fun q => by rw [q] at g1; exact absurd g1 (by decide)), if_neg (fun q => by rw [let_dig q] at g1; cases g1), if_pos g1]
  have hle : s + 1 ≤ runE digB t n (s + 1) ∧ runE digB t n (s + 1) ≤ n := run_le rfl (by omega)
  obtain ⟨v, hv, ev⟩ := numF_bd (t := t) (s := s) (j := tkN t n s - s) (by omega) (fun x q1 q2 => by
    have q3 : x < n := by omega
    rw [← chr_at (t := t) q3]
    exact run_all rfl x q1 (by rw [run_t hs g1, ← e]; omega))
  refine ⟨v, ?_, by rw [g3, ev]⟩
  have : 10 ^ (tkN t n s - s) ≤ 10 ^ 4 := Nat.pow_le_pow_right (by decide) (by omega)
  omega
theorem TC.fj {K V x : Int32} (h : TC K V x) (hk : K = 2 ∧ 5 ≤ V) : ∃ j, j < 9 ∧ V - 5 = nI j := by
  rcases h with ⟨rfl, rfl⟩ | ⟨rfl, rfl⟩ | ⟨j, hj, rfl, rfl, rfl⟩ | ⟨rfl, rfl⟩ | ⟨rfl, rfl, hm⟩
  · exact absurd hk.1 (by decide)
  · exact absurd hk.1 (by decide)
  · have h5 : 5 ≤ j := by
      have := hk.2
      rw [show (5 : Int32) = nI 5 from rfl, nI_leI (by decide) (by omega)] at this
      exact this
    exact ⟨j - 5, by omega, by rw [show (5 : Int32) = nI 5 from rfl, pk_sub h5]⟩
  · exact absurd hk.1 (by decide)
  · exact absurd hk.1 (by decide)
theorem r_unit : PCt mX4_unit pUnit 11 := by
  intro l G d r z k c F h P PX hl hd hr hk hz hp
  obtain ⟨hP, hX⟩ := hp
  have hkn : k ≤ c.2.1 := hk.2.2.2.2
  have hzN : G.2.2.1.size ≤ z := by have := hr.N; omega
  by_cases h3 : tK c.2.2.1 c.2.1 k = 3
  · have e : pUnit c.2.2.1 c.2.1 k = .inr ([(0, tV c.2.2.1 c.2.1 k)], tN c.2.2.1 c.2.1 k) := if_pos h3
    rw [e] at hP ⊢
    have hadv := tN_adv hkn (fun q => by rw [h3] at q; exact absurd q (by decide))
    obtain ⟨v, hv, ev⟩ := tV_nn hkn h3
    have hmc : 2 ≤ cC c.2.1 k (.inr ([(0, tV c.2.2.1 c.2.1 k)], tN c.2.2.1 c.2.1 k)) := by show 2 ≤ 2 * (tN c.2.2.1 c.2.1 k - k); omega
    have hms : 12 ≤ cS c.2.1 k (.inr ([(0, tV c.2.2.1 c.2.1 k)], tN c.2.2.1 c.2.1 k)) := by show 12 ≤ 12 * (tN c.2.2.1 c.2.1 k - k); omega
    generalize cC c.2.1 k (.inr ([(0, tV c.2.2.1 c.2.1 k)], tN c.2.2.1 c.2.1 k)) = mc at hmc ⊢
    generalize cS c.2.1 k (.inr ([(0, tV c.2.2.1 c.2.1 k)], tN c.2.2.1 c.2.1 k)) = ms at hms ⊢
    refine CtX.of rfl (Nat.le_of_ble_eq_true rfl) rfl ?_
    refine X.walk wkX4_unit fnil (RetOk.x (Nat.zero_le _) (Nat.zero_le _)) ⟨Nat.zero_le _, Nat.zero_le _⟩ [8, 21] 4 rfl ?_
    refine gF hr.obj ?_
    refine And.intro (fun b5 => ?_) (fun b5 => ?_)
    · simp only [cP, cN, bI_0, Bool.not_eq_false, lt_nle, Decidable.not_not] at b5
      exact absurd (hk.tc.num.mpr h3) b5
    refine X.newO (ci := 6) (fs := [.int 0]) tyX7 pkX4_unit rfl in_X7 tyX7_ok q557 q558 q108 rfl (fun j hj => by match j, hj with | 0, _ => rfl) (by show 0 + 1 ≤ mc; omega) (by show 0 + 1 ≤ ms; omega) ?_
    intro h8 e8
    have hr8 : IsRd G r c F h8 := by rw [e8]; exact hr.al hz
    refine X.walk wkX4_unit fnil (RetOk.x (by omega) (by omega)) ⟨by show 0 + 1 ≤ mc; omega, by show 0 + 1 ≤ ms; omega⟩ [14] 3 rfl ?_
    refine X.callVX (d' := d - 1) (As := [.int 0]) (rest := [.ref z, .ref z]) ckX4_126 q559 pkX4_unit rfl (r_number (d := d - 1) (P := fun v h' z' => v = some (.int (tV c.2.2.1 c.2.1 k)) ∧ z' = z + 1 ∧ ∃ F', AtT c F' (tN c.2.2.1 c.2.1 k) ∧ F' 4 = F 4 ∧ IsRd G r c F' h' ∧ FrR r h8 h') (PX := fun _ _ _ => False) hl (by omega) hr8 hk (fun _ _ F' h' g1 g2 g3 g4 => ⟨rfl, rfl, F', g1, g2, g3, g4⟩) (fun q => absurd h3 q) (fun _ q => absurd (by rw [ev]; exact nI_le (a := 0) (Nat.zero_le _) (by omega)) q)) hr8.obj rfl rfl rfl (Fit.K (by omega) (by decide) (by omega) (by omega)) (Nat.le_of_ble_eq_true rfl) ?_ (fun _ _ _ _ q => q.elim)
    intro v9 h14 z14 hq
    obtain ⟨rfl, rfl, F', g1, g2, g3, g4⟩ := hq
    have ho : h14 z = some (.inr (6, [.int 0])) := by rw [g4 z (by omega), e8, ahU_s]
    refine X.callI (As := [.int (tV c.2.2.1 c.2.1 k)]) (rest := [.ref z]) ckX4_130 pkX4_unit rfl (c_fixI (d := d - 1) (P := fun v h' z' => v = none ∧ h' = ahU h14 z (.inr (6, [.int (tV c.2.2.1 c.2.1 k)])) ∧ z' = z + 1) (by omega) hzN ho (fun h' e => ⟨rfl, e, rfl⟩)) rfl rfl (Fit.K (by omega) (by decide) (by omega) (by omega)) (Nat.le_of_ble_eq_true rfl) ?_
    intro v9 h17 z17 hq
    obtain ⟨rfl, rfl, rfl⟩ := hq
    refine X.walk wkX4_unit fnil (RetOk.x (by omega) (by omega)) ⟨by show 0 + 1 + 1 + 0 ≤ mc; omega, by show 0 + 1 + 8 + 0 ≤ ms; omega⟩ [] 1 rfl ?_
    show P (some (.ref z)) (ahU h14 z (.inr (6, [.int (tV c.2.2.1 c.2.1 k)]))) (z + 1)
    refine hP _ _ rfl z F' _ (z + 1) ⟨g3.al hz, g1, g2, ?_, by omega, ?_⟩
    · refine FrN.tr (FrN.tr (h1 := h8) ?_ g4.n) (FrN.al (Nat.le_refl _))
      rw [e8]
      exact FrN.al (Nat.le_refl _)
    · refine Or.inl ⟨_, ?_, rfl⟩
      unfold cutz
      rw [if_pos (by omega), ahU_s]
  · by_cases h2 : tK c.2.2.1 c.2.1 k = 2 ∧ 5 ≤ tV c.2.2.1 c.2.1 k
    · have e : pUnit c.2.2.1 c.2.1 k = .inr ([(1, tV c.2.2.1 c.2.1 k - 5)], tN c.2.2.1 c.2.1 k) := by
        unfold pUnit
        rw [if_neg h3, if_pos h2]
      rw [e] at hP ⊢
      have hadv := tN_adv hkn (fun q => by rw [h2.1] at q; exact absurd q (by decide))
      have hmc : 2 ≤ cC c.2.1 k (.inr ([(1, tV c.2.2.1 c.2.1 k - 5)], tN c.2.2.1 c.2.1 k)) := by show 2 ≤ 2 * (tN c.2.2.1 c.2.1 k - k); omega
      have hms : 12 ≤ cS c.2.1 k (.inr ([(1, tV c.2.2.1 c.2.1 k - 5)], tN c.2.2.1 c.2.1 k)) := by show 12 ≤ 12 * (tN c.2.2.1 c.2.1 k - k); omega
      generalize cC c.2.1 k (.inr ([(1, tV c.2.2.1 c.2.1 k - 5)], tN c.2.2.1 c.2.1 k)) = mc at hmc ⊢
      generalize cS c.2.1 k (.inr ([(1, tV c.2.2.1 c.2.1 k - 5)], tN c.2.2.1 c.2.1 k)) = ms at hms ⊢
      have hfv := hk.tc.fv h2
      obtain ⟨j, hj, ej⟩ : ∃ j, j < 9 ∧ tV c.2.2.1 c.2.1 k - 5 = nI j := hk.tc.fj h2
      refine CtX.of rfl (Nat.le_of_ble_eq_true rfl) rfl ?_
      refine X.walk wkX4_unit (fcons (ceS c_isIn mo3 ckX4_30 (by omega) rfl) (fcons (ceV r_next rmV0 ckX4_106 rfl rrV0 (by omega) rfl) fnil)) (RetOk.x (Nat.zero_le _) (Nat.zero_le _)) ⟨Nat.zero_le _, Nat.zero_le _⟩ [8, 37, 63] 18 rfl ?_
      refine gF hr.obj ?_
      refine And.intro (fun b5 => ?_) (fun b5 => ?_)
      rotate_left 1
      · simp only [cP, cN, bI_0, Bool.not_eq_false, lt_nle, Decidable.not_not] at b5
        exact absurd (hk.tc.num.mp b5) h3
      refine gF hr.obj ?_
      refine And.intro (fun b34 => ?_) (fun b34 => ?_)
      rotate_left 1
      · simp only [cP, cN, bI_0, Bool.not_eq_false, lt_nle, Decidable.not_not] at b34
        replace b34 : isInB (F 2) 180 188 = false := b34
        exact absurd (hk.tc.fc.mpr h2) (by rw [b34]; decide)
      refine gF hr.obj ?_
      refine Exists.intro _ (Exists.intro _ (Exists.intro _ (And.intro hr (And.intro hk.nx ?_))))
      intro F' h' p g3 hf
      obtain ⟨g1, g2⟩ := AtT.of p hk.nx.2
      have k63 : X l G mX4_unit (rmK d mc ms) (TGx G P PX mc ms) 0 0 63 [(0, .ref r), (1, .int (nI j))] [] h' z := by
        refine X.newO (ci := 7) (fs := [.int 0]) tyX8 pkX4_unit rfl in_X8 tyX8_ok q574 q575 q109 rfl (fun j hj => by match j, hj with | 0, _ => rfl) (by show 0 + 1 ≤ mc; omega) (by show 0 + 1 ≤ ms; omega) ?_
        intro h8 e8
        have hr8 : IsRd G r c F' h8 := by rw [e8]; exact g3.al hz
        refine X.walk wkX4_unit fnil (RetOk.x (by omega) (by omega)) ⟨by show 0 + 1 ≤ mc; omega, by show 0 + 1 ≤ ms; omega⟩ [68] 2 rfl ?_
        refine X.callI (As := [.int (nI j)]) (rest := [.ref z]) ckX4_135 pkX4_unit rfl (c_knoI (d := d - 1) (P := fun v h' z' => v = none ∧ h' = ahU h8 z (.inr (7, [.int (nI j)])) ∧ z' = z + 1) (by omega) hzN (by rw [e8, ahU_s]) (fun h' e => ⟨rfl, e, rfl⟩)) rfl rfl (Fit.K (by omega) (by decide) (by omega) (by omega)) (Nat.le_of_ble_eq_true rfl) ?_
        intro v9 h17 z17 hq
        obtain ⟨rfl, rfl, rfl⟩ := hq
        refine X.walk wkX4_unit fnil (RetOk.x (by omega) (by omega)) ⟨by show 0 + 1 + 0 ≤ mc; omega, by show 0 + 1 + 0 ≤ ms; omega⟩ [] 1 rfl ?_
        show P (some (.ref z)) (ahU h8 z (.inr (7, [.int (nI j)]))) (z + 1)
        refine hP _ _ rfl z F' _ (z + 1) ⟨hr8.al hz, g1, g2, ?_, by omega, ?_⟩
        · refine FrN.tr (FrN.tr hf.n (h2 := h8) ?_) (FrN.al (Nat.le_refl _))
          rw [e8]
          exact FrN.al (Nat.le_refl _)
        · rw [ej]
          refine Or.inr (Or.inl ⟨j, hj, ?_, rfl⟩)
          unfold cutz
          rw [if_pos (by omega), ahU_s]
      rw [← ej, ← hfv] at k63
      exact k63
    · have e : pUnit c.2.2.1 c.2.1 k = .inl (1, tS c.2.2.1 c.2.1 k) := by
        unfold pUnit
        rw [if_neg h3, if_neg h2]
      rw [e] at hX ⊢
      refine CtX.of rfl (Nat.le_of_ble_eq_true rfl) rfl ?_
      refine X.walk wkX4_unit (fcons (ceS c_isIn mo3 ckX4_30 (by omega) rfl) fnil) (RetOk.x (Nat.zero_le _) (Nat.zero_le _)) ⟨Nat.zero_le _, Nat.zero_le _⟩ [8, 37, 50] 10 rfl ?_
      refine gF hr.obj ?_
      refine And.intro (fun b5 => ?_) (fun b5 => ?_)
      rotate_left 1
      · simp only [cP, cN, bI_0, Bool.not_eq_false, lt_nle, Decidable.not_not] at b5
        exact absurd (hk.tc.num.mp b5) h3
      refine gF hr.obj ?_
      refine And.intro (fun b34 => ?_) (fun b34 => ?_)
      · simp only [cP, cN, bI_0, Bool.not_eq_false, lt_nle, Decidable.not_not] at b34
        exact absurd (hk.tc.fc.mp b34) h2
      refine X.thrF hl rfl pkX4_unit rfl rfl rfl rfl rfl rfl rfl rfl rfl hr.obj rfl (by show 0 + 1 ≤ 2 * (c.2.1 - k) + 2; omega) (by show 0 + 8 ≤ 12 * (c.2.1 - k) + 12; omega) (by show 6 ≤ d; omega) (by show 300 ≤ 40 * d; omega) ?_
      intro fs hfs
      refine XThr.out ?_ ahU_s (by show 0 + 1 ≤ 2 * (c.2.1 - k) + 2; omega) (by show 0 + 8 ≤ 12 * (c.2.1 - k) + 12; omega)
      rw [hk.2.1]
      exact hX _ rfl z _ _ ⟨FrN.al (Nat.le_refl _), fs, hfs, ahU_s⟩
