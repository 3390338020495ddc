set_option maxRecDepth 100000
/-! THE READER: a text's lines -/
theorem IsTm.imL {h h' : AH} (m : ∀ a ci fs, Nat.ble ci 10 = true → h a = some (.inr (ci, fs)) → h' a = some (.inr (ci, fs))) : ∀ {n a : Nat} {c : Code9}, IsTm h n a c → IsTm h' n a c
  | 0, _, _, w => w.elim
  | n + 1, a, c, w => by
    rcases w with ⟨v, h1, e⟩ | ⟨k, hk, h1, e⟩ | ⟨t, c1, h1, h2, e⟩ | ⟨t1, t2, o, c1, c2, h1, h2, h3, h4, h5, e⟩
    · exact Or.inl ⟨v, m _ _ _ rfl h1, e⟩
    · exact Or.inr (Or.inl ⟨k, hk, m _ _ _ rfl h1, e⟩)
    · exact Or.inr (Or.inr (Or.inl ⟨t, c1, m _ _ _ rfl h1, IsTm.imL m h2, e⟩))
    · exact Or.inr (Or.inr (Or.inr ⟨t1, t2, o, c1, c2, m _ _ _ rfl h1, h2, h3, IsTm.imL m h4, IsTm.imL m h5, e⟩))
theorem IsLine.imL {h h' : AH} (m : ∀ a ci fs, Nat.ble ci 10 = true → h a = some (.inr (ci, fs)) → h' a = some (.inr (ci, fs))) {la : Nat} {q : Line9} (w : IsLine h la q) : IsLine h' la q := by
  obtain ⟨tg, tw, h1, h2, h3⟩ := w
  refine ⟨tg, tw, m _ _ _ rfl h1, h2.imL m, ?_⟩
  rcases h3 with h3 | ⟨c, t, h4, h5, h6⟩
  · exact Or.inl h3
  · exact Or.inr ⟨c, t, h4, h5, h6.imL m⟩
theorem cutz_at {z0 z a : Nat} {h : AH} {e : va_E} (q : cutz z0 z h a = some e) : z0 ≤ a ∧ a < z ∧ h a = some e := by
  unfold cutz at q
  by_cases g : z0 ≤ a ∧ a < z
  · rw [if_pos g] at q; exact ⟨g.1, g.2, q⟩
  · rw [if_neg g] at q; cases q
theorem cutz_of {z0 z a : Nat} {h : AH} {e : va_E} (h0 : z0 ≤ a) (h1 : a < z) (q : h a = some e) : cutz z0 z h a = some e := by
  unfold cutz
  rw [if_pos ⟨h0, h1⟩]; exact q
theorem cutz_fr {r z0 z z' : Nat} {h h' : AH} (hf : FrN r z h h') (hr : r < z0) (hz : z ≤ z') : ∀ a e, cutz z0 z h a = some e → cutz z0 z' h' a = some e := by
  intro a e q
  obtain ⟨g1, g2, g3⟩ := cutz_at q
  exact cutz_of g1 (by omega) (by rw [hf a g2 (by omega)]; exact g3)
/-- the list of the lines read so far; all of it lies between z0 and z -/
def LsI (G : GG) (z0 z : Nat) (h : AH) (la : Nat) (ls : List Line9) : Prop := z0 ≤ la ∧ la < z ∧ ∃ (mc : Int32) (ea : Nat) (f : Nat → Option Nat), h la = some (.inr (11, lsF mc ea (nI ls.length))) ∧ ((ls = [] ∧ ea = G.2.2.2 0) ∨ ∃ cap, (cap = 10 ∨ cap = 15 ∨ cap = 22) ∧ 0 < ls.length ∧ h ea = some (aR G 5 cap f) ∧ ls.length ≤ cap ∧ z0 ≤ ea ∧ ea < z ∧ ea ≠ la) ∧ ∀ (i : Nat) (q : Line9), ls[i]? = some q → ∃ y, f i = some y ∧ IsLine (cutz z0 z h) y q
theorem LsI.fr {G : GG} {r z0 z z' la : Nat} {h h' : AH} {ls : List Line9} (w : LsI G z0 z h la ls) (hf : FrN r z h h') (hr : r < z0) (hz : z ≤ z') : LsI G z0 z' h' la ls := by
  obtain ⟨w1, w2, mc, ea, f, w3, w4, w5⟩ := w
  refine ⟨w1, by omega, mc, ea, f, by rw [hf la w2 (by omega)]; exact w3, ?_, fun i q hq => ?_⟩
  · rcases w4 with w4 | ⟨cap, g1, g0, g2, g3, g4, g5, g6⟩
    · exact Or.inl w4
    · exact Or.inr ⟨cap, g1, g0, by rw [hf ea g5 (by omega)]; exact g2, g3, g4, by omega, g6⟩
  · obtain ⟨y, e, hy⟩ := w5 i q hq
    exact ⟨y, e, hy.mono (cutz_fr hf hr hz)⟩
theorem LsI.law {G : GG} {z0 z la : Nat} {h : AH} {ls : List Line9} (w : LsI G z0 z h la ls) (hl : ls.length ≤ 16) : IsLaw G (cutz z0 z h) la ls := by
  obtain ⟨w1, w2, mc, ea, f, w3, w4, w5⟩ := w
  refine ⟨mc, ea, cutz_of w1 w2 w3, hl, ?_⟩
  rcases w4 with ⟨w4, -⟩ | ⟨cap, g1, g0, g2, g3, g4, g5, g6⟩
  · exact Or.inl w4
  · exact Or.inr ⟨cap, f, cutz_of g4 g5 g2, g3, by omega, w5⟩
theorem LsI.toA {G : GG} {z0 z la : Nat} {h : AH} {ls : List Line9} (hN : G.2.2.1.size ≤ z0) (w : LsI G z0 z h la ls) : ∃ (mc : Int32) (ea : Nat) (f : Nat → Option Nat), h la = some (.inr (11, lsF mc ea (nI ls.length))) ∧ LsA G h la ea ls.length f ∧ ∀ v q h' z', IsLine (cutz z0 z h) v q → AdP G h h' la ea ls.length v z z' f → LsI G z0 z' h' la (ls ++ [q]) ∧ z ≤ z' ∧ ∀ a, a < z0 → h' a = h a := by
  obtain ⟨w1, w2, mc, ea, f, w3, w4, w5⟩ := w
  have hline : ∀ i, i < ls.length → ∃ y vs, f i = some y ∧ h y = some (.inr (10, vs)) := by
    intro i hi
    obtain ⟨y, e, hy⟩ := w5 i _ (List.getElem?_eq_getElem hi)
    obtain ⟨tg, tw, g1, -⟩ := hy
    exact ⟨y, _, e, (cutz_at g1).2.2⟩
  refine ⟨mc, ea, f, w3, ?_, ?_⟩
  · rcases w4 with ⟨rfl, w4⟩ | ⟨cap, g1, g0, g2, g3, g4, g5, g6⟩
    · exact Or.inl ⟨rfl, w4⟩
    · exact Or.inr ⟨cap, g1, g0, g2, g3, by omega, g6, hline⟩
  · intro v q h' z' hv hA
    obtain ⟨mc', ea', cap, f', a1, a2, a3, a4, a5, a6, a7, a8, a9, a10⟩ := hA
    have hz : z ≤ z' := by rcases a9 with ⟨-, e, -⟩ | ⟨-, e⟩ <;> omega
    have hea : z0 ≤ ea' ∧ ea' < z' ∧ ∀ ci fs, h ea' = some (.inr (ci, fs)) → ¬ ea' < z := by
      rcases a9 with ⟨e1, e2, e3⟩ | ⟨e1, e2⟩
      · rcases w4 with ⟨w4, -⟩ | ⟨cap, g1, g0, g2, g3, g4, g5, g6⟩
        · rw [w4] at e3; exact absurd e3 (by decide)
        · subst e1; exact ⟨g4, by omega, fun ci fs q => by rw [g2] at q; cases q⟩
      · subst e1; exact ⟨by omega, by omega, fun _ _ _ => by omega⟩
    have key : ∀ a ci fs, Nat.ble ci 10 = true → cutz z0 z h a = some (.inr (ci, fs)) → cutz z0 z' h' a = some (.inr (ci, fs)) := by
      intro a ci fs hc hq
      obtain ⟨g1, g2, g3⟩ := cutz_at hq
      have n1 : a ≠ la := by
        intro e
        rw [e, w3] at g3
        cases g3
        cases hc
      have n2 : a ≠ ea' := by
        intro e
        rw [e] at g3 g2
        exact hea.2.2 _ _ g3 g2
      exact cutz_of g1 (by omega) (by rw [a10 a n1 n2]; exact g3)
    have hll : (ls ++ [q]).length = ls.length + 1 := by simp
    refine ⟨⟨w1, by omega, mc', ea', f', by rw [hll]; exact a3, Or.inr ⟨cap, a1, by omega, a4, by omega, hea.1, hea.2.1, a6⟩, fun i p hp => ?_⟩, hz, fun a ha => a10 a (by omega) (by omega)⟩
    rcases get_snoc hp with ⟨hi, hq⟩ | ⟨hi, hq⟩
    · obtain ⟨y, e, hy⟩ := w5 i p hq
      exact ⟨y, by rw [a7 i hi]; exact e, hy.imL key⟩
    · subst hq
      exact ⟨v, by rw [hi]; exact a8, hv.imL key⟩
theorem IsRd.frz {G : GG} {r z0 : Nat} {c : RC} {F : Nat → Int32} {h h' : AH} (w : IsRd G r c F h) (hz : r < z0 ∧ c.1 + 1 < z0) (hf : ∀ a, a < z0 → h' a = h a) : IsRd G r c F h' :=
  ⟨w.1, w.2.1, by rw [hf r hz.1]; exact w.obj, by rw [hf c.1 (by omega)]; exact w.xo, by rw [hf (c.1 + 1) hz.2]; exact w.tp, w.ln.1, w.ln.2, w.by_⟩
theorem cC_le {n k : Nat} {R : PR} (h : ∀ d k2, R = .inr (d, k2) → k2 ≤ n) : cC n k R ≤ 2 * (n - k) + 2 ∧ cS n k R ≤ 12 * (n - k) + 12 := by
  cases R with
  | inl e => exact ⟨Nat.le_refl _, Nat.le_refl _⟩
  | inr q =>
    have := h q.1 q.2 rfl
    exact ⟨by show 2 * (q.2 - k) ≤ _; omega, by show 12 * (q.2 - k) ≤ _; omega⟩
/-- what read() comes to -/
def PTd (G : GG) (r z0 : Nat) (h0 : AH) (R : PT) (P : Option Value → AH → Nat → Prop) (PX : Nat → AH → Nat → Prop) : Prop := (∀ ls, R = .inr ls → ls.length ≤ 16 → ∀ la h' z', FrN r z0 h0 h' → z0 ≤ z' → z0 ≤ la → IsLaw G (cutz z0 z' h') la ls → P (some (.ref la)) h' z') ∧ (∀ e, R = .inl e → ∀ q h' z', FlR r z0 h0 e q h' → PX q h' z')
abbrev MCr (n : Nat) : Nat := 2 * n + 60
abbrev MSr (n : Nat) : Nat := 12 * n + 560
section RL
variable {l : Launch} {G : GG} {d r z0 : Nat} {c : RC} {h0 : AH} {P : Option Value → AH → Nat → Prop} {PX : Nat → AH → Nat → Prop}
/-- a line's end: the sign, the line made, added -/
theorem r_readT (hl : l.stackTraces = false) (hd : 41 ≤ d) (hz : r < z0 ∧ c.1 + 1 < z0) (hN : G.2.2.1.size ≤ z0) {R : PT} (hp : PTd G r z0 h0 R P PX) {k f z la tm cs ss : Nat} {ls : List Line9} {g : Code9} {w : Option Code9} {wv : Value} {F : Nat → Int32} {h : AH} (hr : IsRd G r c F h) (hk : AtT c F k) (hf : FrN r z0 h0 h) (hz0 : z0 ≤ z) (hL : LsI G z0 z h la ls) (hlen : ls.length < 16) (htm : IsTm (cutz z0 z h) DEP tm g) (hw : (w = none ∧ wv = .null) ∨ ∃ c9 t9, w = some c9 ∧ wv = .ref t9 ∧ IsTm (cutz z0 z h) DEP t9 c9)
    (hR : R = if sgn c.2.2.1 c.2.1 k 59 = true then pTxt c.2.2.1 c.2.1 f (ls ++ [(g, w)]) (tN c.2.2.1 c.2.1 k) else .inl (1, tS c.2.2.1 c.2.1 k)) (hcs : cs ≤ 1 + 2 * k + 3 * ls.length) (hss : ss ≤ 3 + 12 * k + 32 * ls.length)
    (ih : k < tN c.2.2.1 c.2.1 k → tN c.2.2.1 c.2.1 k ≤ c.2.1 → ∀ F h z, IsRd G r c F h → AtT c F (tN c.2.2.1 c.2.1 k) → FrN r z0 h0 h → z0 ≤ z → LsI G z0 z h la (ls ++ [(g, w)]) → R = pTxt c.2.2.1 c.2.1 f (ls ++ [(g, w)]) (tN c.2.2.1 c.2.1 k) → X l G mX4_read (rmK d (MCr c.2.1) (MSr c.2.1)) (TGx G P PX (MCr c.2.1) (MSr c.2.1)) (1 + 2 * tN c.2.2.1 c.2.1 k + 3 * (ls.length + 1)) (3 + 12 * tN c.2.2.1 c.2.1 k + 32 * (ls.length + 1)) 12 [(0, .ref r), (1, .ref la)] [] h z) :
    X l G mX4_read (rmK d (MCr c.2.1) (MSr c.2.1)) (TGx G P PX (MCr c.2.1) (MSr c.2.1)) cs ss 96 [(0, .ref r), (1, .ref la), (2, wv), (3, .ref tm)] [] h z := by
  have hkn : k ≤ c.2.1 := hk.2.2.2.2
  refine X.walk wkX4_read fnil RetOk.no ⟨by show cs ≤ MCr c.2.1; unfold MCr; omega, by show ss ≤ MSr c.2.1; unfold MSr; omega⟩ [99] 2 rfl ?_
  refine X.callVX (d' := d - 1) (As := [.int 59]) (rest := []) ckX4_153 q626 pkX4_read rfl (r_must (d := d - 1) (P := fun v h' z' => v = none ∧ z' = z ∧ F 2 = 59 ∧ ∃ F', AtT c F' (tN c.2.2.1 c.2.1 k) ∧ IsRd G r c F' h' ∧ FrR r h h') (PX := fun q h' z' => ¬ F 2 = 59 ∧ FlR r z0 h0 (1, tS c.2.2.1 c.2.1 k) q h') hl (by omega) hr hk (fun q F' h' g1 g2 g3 g4 => ⟨rfl, rfl, q, F', g1, g3, g4⟩) (fun q fs hfs => ⟨q, hf.tr (FrN.al hz0), fs, hfs, ahU_s⟩)) hr.obj rfl rfl rfl (Fit.K (by omega) (by decide) (by unfold MCr; omega) (by unfold MSr; omega)) (Nat.le_of_ble_eq_true rfl) ?_ ?_
  rotate_left 1
  · intro q h2 z2 fs hq hfs
    obtain ⟨e, hfl⟩ := hq
    rw [if_neg (show ¬ sgn c.2.2.1 c.2.1 k 59 = true from fun q9 => e ((hk.tc.sg (c := 59) rfl).mpr q9))] at hR
    exact XThr.out (hp.2 _ hR q h2 z2 hfl) hfs (by unfold MCr; omega) (by unfold MSr; omega)
  intro v h2 z2 hq
  obtain ⟨rfl, rfl, e, F2, hk2, hr2, hf2⟩ := hq
  have hs : sgn c.2.2.1 c.2.1 k 59 = true := (hk.tc.sg (c := 59) rfl).mp e
  have ha := sgn_adv hkn hs
  rw [if_pos hs] at hR
  have hla1 := hL.1
  have hla2 := hL.2.1
  have hzN : G.2.2.1.size ≤ z2 := by omega
  refine X.walk wkX4_read fnil RetOk.no ⟨by show cs + 1 ≤ MCr c.2.1; unfold MCr; omega, by show ss + 8 ≤ MSr c.2.1; unfold MSr; omega⟩ [103] 1 rfl ?_
  refine X.newO (ci := 10) (fs := [.null, .null]) tyX11 pkX4_read rfl in_X11 tyX11_ok q630 q631 q112 rfl (fun j hj => by match j, hj with | 0, _ => rfl | 1, _ => rfl) (by show cs + 1 + 1 ≤ MCr c.2.1; unfold MCr; omega) (by show ss + 8 + 2 ≤ MSr c.2.1; unfold MSr; omega) ?_
  intro h3 e3
  have ho3 : h3 z2 = some (.inr (10, [.null, .null])) := by rw [e3]; exact ahU_s
  have hwv : wv = .null ∨ ∃ q, wv = .ref q := by
    rcases hw with ⟨-, e⟩ | ⟨c9, t9, -, e, -⟩
    · exact Or.inl e
    · exact Or.inr ⟨t9, e⟩
  have tail : X l G mX4_read (rmK d (MCr c.2.1) (MSr c.2.1)) (TGx G P PX (MCr c.2.1) (MSr c.2.1)) (cs + 1 + 1) (ss + 8 + 2) 109 [(0, .ref r), (1, .ref la), (2, wv), (3, .ref tm)] [wv, .ref tm, .ref z2, .ref z2, .ref la] h3 (z2 + 1) := by
    refine X.callI (As := [.ref tm, wv]) (rest := [.ref z2, .ref la]) ckX4_166 pkX4_read rfl (c_lineI (d := d - 1) (P := fun v h' z' => v = none ∧ h' = ahU h3 z2 (.inr (10, [.ref tm, wv])) ∧ z' = z2 + 1) (by omega) hzN hwv ho3 (fun h' e => ⟨rfl, e, rfl⟩)) rfl rfl (Fit.K (by omega) (by decide) (by unfold MCr; omega) (by unfold MSr; omega)) (Nat.le_of_ble_eq_true rfl) ?_
    intro v h4 z4 hq
    obtain ⟨rfl, e4, rfl⟩ := hq
    have hf4 : FrN r z2 h h4 := by
      refine FrN.tr (FrN.tr (h1 := h2) hf2.n ?_) ?_ (h1 := h3)
      · rw [e3]; exact FrN.al (Nat.le_refl _)
      · rw [e4]; exact FrN.al (Nat.le_refl _)
    have hL4 : LsI G z0 (z2 + 1) h4 la ls := hL.fr hf4 hz.1 (by omega)
    have hcz := cutz_fr hf4 hz.1 (show z2 ≤ z2 + 1 by omega)
    have hln : IsLine (cutz z0 (z2 + 1) h4) z2 (g, w) := by
      refine ⟨tm, wv, cutz_of hz0 (by omega) (by rw [e4]; exact ahU_s), IsTm.mh hcz htm, ?_⟩
      rcases hw with hw | ⟨c9, t9, q1, q2, q3⟩
      · exact Or.inl hw
      · exact Or.inr ⟨c9, t9, q1, q2, IsTm.mh hcz q3⟩
    have hr4 : IsRd G r c F2 h4 := by
      have q := (hr2.al (e := .inr (10, [.null, .null])) (z := z2) (by omega)).al (e := .inr (10, [.ref tm, wv])) (z := z2) (by omega)
      rw [e4, e3]; exact q
    obtain ⟨mc, ea, f9, a1, a2, a3⟩ := hL4.toA hN
    refine X.callV (As := [.ref z2]) (rest := []) ckX4_169 pkX4_read rfl (c_add (d := d - 1) (by omega) a1 (by omega) (by omega) hlen (by rw [e4]; exact ahU_s) a2 (P := fun v h' z' => v = some (.int 1) ∧ AdP G h4 h' la ea ls.length z2 (z2 + 1) z' f9) (fun h' z' e => ⟨rfl, e⟩)) a1 rfl rfl rfl (Fit.K (by omega) (by decide) (by unfold MCr; omega) (by unfold MSr; omega)) (Nat.le_of_ble_eq_true rfl) ?_
    intro v h5 z5 hq
    obtain ⟨rfl, hA⟩ := hq
    obtain ⟨b1, b2, b3⟩ := a3 _ _ _ _ hln hA
    refine X.walk wkX4_read fnil RetOk.no ⟨by show cs + 1 + 1 + 0 + 1 ≤ MCr c.2.1; unfold MCr; omega, by show ss + 8 + 2 + 0 + 22 ≤ MSr c.2.1; unfold MSr; omega⟩ [12] 2 rfl ?_
    refine X.widen (by omega) (by omega) (X.sub (ih ha.1 ha.2 F2 h5 z5 (hr4.frz hz b3) hk2 ?_ (by omega) b1 hR) ?_)
    · exact (hf.tr (hf4.le hz0)).tr (fun a h1 _ => b3 a h1)
    · intro q hq
      simp only [List.mem_cons, List.not_mem_nil, or_false] at hq ⊢
      rcases hq with rfl | rfl
      · exact Or.inl rfl
      · exact Or.inr (Or.inl rfl)
  rcases hwv with rfl | ⟨q9, rfl⟩
  · refine X.walk wkX4_read fnil RetOk.no ⟨by show cs + 1 + 1 ≤ MCr c.2.1; unfold MCr; omega, by show ss + 8 + 2 ≤ MSr c.2.1; unfold MSr; omega⟩ [109] 3 rfl ?_
    exact tail
  · refine X.walk wkX4_read fnil RetOk.no ⟨by show cs + 1 + 1 ≤ MCr c.2.1; unfold MCr; omega, by show ss + 8 + 2 ≤ MSr c.2.1; unfold MSr; omega⟩ [109] 3 rfl ?_
    exact tail
end RL
