set_option maxRecDepth 100000
/-! A WOOD IS MADE -/
theorem wC_lw2 {G : GG} {b law law' o : Nat} {S : Nat → Nat → Int32} (ho : 1 ≤ o) : wC G b S law o = wC G b S law' o := by
  unfold wC
  have h : wK o ≠ 0 := by
    unfold wK
    repeat' split
    all_goals omega
  generalize wK o = k at h
  match k, h with
  | 0, h => exact absurd rfl h
  | 1, _ => rfl
  | 2, _ => rfl
  | 3, _ => rfl
  | 4, _ => rfl
  | 5, _ => rfl
  | 6, _ => rfl
  | _ + 7, _ => rfl
/-- a wood in the making: its object, its cells up to k -/
def MkW (G : GG) (b k : Nat) (fs : List Value) (h0 h : AH) : Prop := G.2.2.1.size ≤ b ∧ h b = some (.inr (1, fs)) ∧ (∀ o e, 1 ≤ o → o ≤ k → wC G b zS 0 o = some e → h (b + o) = some e) ∧ ∀ a, a < b → h a = h0 a
section MW
variable {G : GG} {b k : Nat} {fs : List Value} {h0 h h2 : AH}
theorem MkW.new (w : MkW G b k fs h0 h) {E : va_E} (e : h2 = ahU h (b + (k + 1)) E) (hE : wC G b zS 0 (k + 1) = some E) : MkW G b (k + 1) fs h0 h2 := by
  subst e
  refine ⟨w.1, by rw [ahU_n (by omega)]; exact w.2.1, fun o e h1 h3 he => ?_, fun a ha => by rw [ahU_n (by omega)]; exact w.2.2.2 a ha⟩
  by_cases eo : o = k + 1
  · subst eo; rw [ahU_s, ← hE]; exact he
  · rw [ahU_n (by omega)]; exact w.2.2.1 o e h1 (by omega) he
theorem MkW.put (w : MkW G b k fs h0 h) {fs' : List Value} (e : h2 = ahU h b (.inr (1, fs'))) : MkW G b k fs' h0 h2 := by
  subst e
  refine ⟨w.1, ahU_s, fun o e h1 h3 he => ?_, fun a ha => by rw [ahU_n (by omega)]; exact w.2.2.2 a ha⟩
  rw [ahU_n (by omega)]; exact w.2.2.1 o e h1 h3 he
theorem MkW.off (w : MkW G b k fs h0 h) {a : Nat} {E : va_E} (e : h2 = ahU h a E) (ha : b + k < a) : MkW G b k fs h0 h2 := by
  subst e
  refine ⟨w.1, by rw [ahU_n (by omega)]; exact w.2.1, fun o e h1 h3 he => ?_, fun a' ha' => by rw [ahU_n (by omega)]; exact w.2.2.2 a' ha'⟩
  rw [ahU_n (by omega)]; exact w.2.2.1 o e h1 h3 he
theorem MkW.grid (w : MkW G b 9 fs h0 h) (e : h2 = grd G h (b + 10) 100 4) : MkW G b 110 fs h0 h2 := by
  subst e
  have lo : ∀ a, a < b + 10 → grd G h (b + 10) 100 4 a = h a := fun a ha => by
    unfold grd
    rw [if_neg (by omega), if_neg (by omega)]
  refine ⟨w.1, by rw [lo b (by omega)]; exact w.2.1, fun o e h1 h3 he => ?_, fun a ha => by rw [lo a (by omega)]; exact w.2.2.2 a ha⟩
  by_cases h9 : o ≤ 9
  · rw [lo _ (by omega)]; exact w.2.2.1 o e h1 h9 he
  · by_cases h10 : o = 10
    · subst h10
      have he : some (aR G 2 100 (fun i => some (b + (11 + i)))) = some e := he
      rw [← he]
      unfold grd
      rw [if_pos rfl]
      have e9 : (fun i => some (b + 10 + (1 + i))) = fun i => some (b + (11 + i)) := funext fun i => by rw [show b + 10 + (1 + i) = b + (11 + i) from by omega]
      rw [e9]
    · have hk : wK o = 3 := by
        unfold wK
        rw [if_neg (by omega), if_neg (by omega), if_neg (by omega), if_neg (by omega), if_pos (by omega)]
      unfold wC at he
      rw [hk] at he
      have he : some (aI G 4 (fun _ => 0)) = some e := he
      rw [← he]
      unfold grd
      rw [if_neg (by omega), if_pos (by omega)]
end MW
/-- people made up to p -/
def MkP (G : GG) (b p : Nat) (fs : List Value) (h0 h : AH) : Prop := MkW G b 110 fs h0 h ∧ h (b + 111) = some (aR G 3 6 (fun i => if i < p then some (b + (113 + 2 * i)) else none)) ∧ ∀ q, q < p → h (b + (113 + 2 * q)) = some (.inr (2, [.ref (b + (113 + 2 * q + 1)), .int 0, .int 0, .int 0])) ∧ h (b + (113 + 2 * q + 1)) = some (aI G 12 (fun _ => 0))
theorem MkP.wood {G : GG} {b : Nat} {h0 h : AH} (w : MkP G b 6 (wF b zS (b + 112)) h0 h) : IsWood G b zS (b + 112) (ahU h (b + 111) (aR G 3 6 (fun p => some (b + (113 + 2 * p))))) := by
  obtain ⟨w0, w1, w2⟩ := w
  refine ⟨w0.1, fun o e he => ?_⟩
  by_cases h0 : o = 0
  · subst h0
    have he : some (.inr (1, wF b zS (b + 112))) = some e := he
    rw [← he, ahU_n (by omega)]; exact w0.2.1
  by_cases h1 : o ≤ 110
  · rw [ahU_n (by omega)]
    rw [wC_lw2 (law' := 0) (by omega)] at he
    exact w0.2.2.1 o e (by omega) h1 he
  by_cases h2 : o = 111
  · subst h2
    rw [ahU_s]; exact he
  by_cases h3 : o = 112
  · subst h3; cases he
  by_cases h4 : o ≤ 124
  · by_cases h5 : o % 2 = 1
    · obtain ⟨q, hq, rfl⟩ : ∃ q, q < 6 ∧ o = 113 + 2 * q := ⟨(o - 113) / 2, by omega, by omega⟩
      have hk : wK (113 + 2 * q) = 6 := by
        unfold wK
        rw [if_neg (by omega), if_neg (by omega), if_neg (by omega), if_neg (by omega), if_neg (by omega), if_neg (by omega), if_neg (by omega), if_pos (by omega), if_pos h5]
      unfold wC at he
      rw [hk] at he
      rw [ahU_n (by omega), (w2 q hq).1]; exact he
    · obtain ⟨q, hq, rfl⟩ : ∃ q, q < 6 ∧ o = 113 + 2 * q + 1 := ⟨(o - 114) / 2, by omega, by omega⟩
      have hk : wK (113 + 2 * q + 1) = 2 := by
        unfold wK
        rw [if_neg (by omega), if_neg (by omega), if_neg (by omega), if_neg (by omega), if_neg (by omega), if_neg (by omega), if_neg (by omega), if_pos (by omega), if_neg h5]
      unfold wC at he
      rw [hk] at he
      rw [ahU_n (by omega), (w2 q hq).2]; exact he
  · have hk : wK o = 7 := by
      unfold wK
      rw [if_neg (by omega), if_neg (by omega), if_neg (by omega), if_neg (by omega), if_neg (by omega), if_neg (by omega), if_neg (by omega), if_neg (by omega)]
    unfold wC at he
    rw [hk] at he
    cases he

def wD : List Value := [.null, .null, .null, .null, .null, .null, .null, .null, .null, .null, .null, .null, .int 0, .int 0, .int 0, .int 0, .int 0, .int 0, .int 0, .int 0, .int 0, .int 0, .int 0, .int 0, .int 0]
theorem c_wInit {l : Launch} {G : GG} {d : Nat} (hd : 6 ≤ d) {b : Nat} {h : AH} (hN : G.2.2.1.size ≤ b) (ho : h b = some (.inr (1, wD))) {P : Option Value → AH → Nat → Prop} (hs : ∀ h', IsWood G b (begF zS 6 6) (b + 125) h' → h' (b + 125) = some (.inr (11, lsF 0 (G.2.2.2 0) 0)) → (∀ a, a < b → h' a = h a) → P none h' (b + 126)) : Ct l G mX1_init d 125 1028 [.ref b] h (b + 1) P := by
  refine Ct.of rfl (Nat.le_of_ble_eq_true rfl) rfl ?_
  have loop : ∀ (n p : Nat) (i : Int32) (h1 : AH), p + n = 6 → i = nI p → MkP G b p (wF b zS (b + 112)) h h1 → X l G mX1_init (rmK d 125 1028) (TGm G P 125 1028) (112 + 2 * p) (929 + 16 * p) 109 [(0, .ref b), (1, .int i)] [] h1 (b + (113 + 2 * p)) := by
    intro n
    induction n with
    | zero =>
      intro p i h1 hp hi w
      obtain rfl : p = 6 := by omega
      subst hi
      refine X.walk wkX1_init fnil RetOk.no ⟨by show 112 + 2 * 6 ≤ 125; decide, by show 929 + 16 * 6 ≤ 1028; decide⟩ [134, 115] 3 rfl ?_
      refine And.intro (fun _ => ?_) (fun b9 => absurd (by decide) b9)
      refine X.cong w.2.1 (aR_cong (g := fun p => some (b + (113 + 2 * p))) (fun j hj => by rw [if_pos hj])) ?_
      have hw := w.wood
      refine X.walk wkX1_init fnil RetOk.no ⟨by show 112 + 2 * 6 ≤ 125; decide, by show 929 + 16 * 6 ≤ 1028; decide⟩ [139] 3 rfl ?_
      refine X.callV (As := [.int 6, .int 6]) (rest := []) ckX1_58 pkX1_init rfl (c_begins (d := d - 1) (z := b + 125) (by omega) hw (Nat.le_refl _) (P := fun v h' z' => v = none ∧ z' = b + 126 ∧ IsWood G b (begF zS 6 6) (b + 125) h' ∧ h' (b + 125) = some (.inr (11, lsF 0 (G.2.2.2 0) 0)) ∧ FrZ b (b + 125) (ahU h1 (b + 111) (aR G 3 6 (fun p => some (b + (113 + 2 * p))))) h') (fun h' q1 q2 q3 => ⟨rfl, rfl, q1, q2, q3⟩)) hw.obj rfl rfl rfl (Fit.K (by omega) (by decide) (by decide) (by decide)) (Nat.le_of_ble_eq_true rfl) ?_
      intro v h2 z2 hq
      obtain ⟨rfl, rfl, q1, q2, q3⟩ := hq
      refine X.walk wkX1_init fnil (RetOk.m (by decide) (by decide)) ⟨by show 112 + 2 * 6 + 1 ≤ 125; decide, by show 929 + 16 * 6 + 3 ≤ 1028; decide⟩ [] 1 rfl ?_
      refine hs h2 q1 q2 (fun a ha => ?_)
      rw [q3 a (Or.inl ha) (by omega), ahU_n (by omega)]
      exact w.1.2.2.2 a ha
    | succ n ih =>
      intro p i h1 hp hi w
      subst hi
      have hp6 : p < 6 := by omega
      refine X.walk wkX1_init fnil RetOk.no ⟨by show 112 + 2 * p ≤ 125; omega, by show 929 + 16 * p ≤ 1028; omega⟩ [134, 120] 6 rfl ?_
      refine And.intro (fun b9 => ?_) (fun _ => ?_)
      · exact absurd ((nI_leI (a := 6) (b := p) (by decide) (by omega)).mp b9) (by omega)
      refine gF w.1.2.1 ?_
      refine X.newO (ci := 2) (fs := [.null, .int 0, .int 0, .int 0]) tyX2 pkX1_init rfl in_X2 tyX2_ok q134 q164 q96 rfl (fun j hj => by match j, hj with | 0, _ => rfl | 1, _ => rfl | 2, _ => rfl | 3, _ => rfl) (by show 112 + 2 * p + 1 ≤ 125; omega) (by show 929 + 16 * p + 4 ≤ 1028; omega) ?_
      intro h2 e2
      refine X.walk wkX1_init fnil RetOk.no ⟨by show 112 + 2 * p + 1 ≤ 125; omega, by show 929 + 16 * p + 4 ≤ 1028; omega⟩ [124] 1 rfl ?_
      refine X.callI (As := []) (rest := [.ref (b + (113 + 2 * p)), .int (nI p), .ref (b + 111)]) ckX1_57 pkX1_init rfl (c_pInit (d := d - 1) (z := b + (113 + 2 * p) + 1) (by omega) (by omega) (by omega) (by rw [e2]; exact ahU_s) (P := fun v h' z' => v = none ∧ z' = b + (113 + 2 * p) + 1 + 1 ∧ h' = ahU (ahU h2 (b + (113 + 2 * p) + 1) (aI G 12 (fun _ => 0))) (b + (113 + 2 * p)) (.inr (2, [.ref (b + (113 + 2 * p) + 1), .int 0, .int 0, .int 0]))) (fun h' e => ⟨rfl, rfl, e⟩)) rfl rfl (Fit.K (by omega) (by decide) (by omega) (by omega)) (Nat.le_of_ble_eq_true rfl) ?_
      intro v h3 z3 hq
      obtain ⟨rfl, rfl, e3⟩ := hq
      have w3 : MkW G b 110 (wF b zS (b + 112)) h h3 := by
        have a2 := w.1.off e2 (by omega)
        have a3 := a2.off (h2 := ahU h2 (b + (113 + 2 * p) + 1) (aI G 12 (fun _ => 0))) rfl (by omega)
        exact a3.off e3 (by omega)
      have hpa : h3 (b + 111) = some (aR G 3 6 (fun i => if i < p then some (b + (113 + 2 * i)) else none)) := by
        rw [e3, ahU_n (by omega), ahU_n (by omega), e2, ahU_n (by omega)]; exact w.2.1
      refine X.aast (t := 3) (ci := 2) (v := b + (113 + 2 * p)) (C := RX2) (T := TX2) (N := 4) pkX1_init rfl hpa rfl (by rw [e3]; exact ahU_s) rfl (ixN hp6 (by decide)) (by omega) rfl ?_
      intro h4 e4
      refine X.walk wkX1_init fnil RetOk.no ⟨by show 112 + 2 * p + 1 + 1 ≤ 125; omega, by show 929 + 16 * p + 4 + 12 ≤ 1028; omega⟩ [109] 2 rfl ?_
      have w4 : MkP G b (p + 1) (wF b zS (b + 112)) h h4 := by
        refine ⟨w3.off e4 (by omega), ?_, fun q hq => ?_⟩
        · rw [e4, ahU_s]
          have e9 : va_up (fun i => if i < p then some (b + (113 + 2 * i)) else none) p (some (b + (113 + 2 * p))) = fun i => if i < p + 1 then some (b + (113 + 2 * i)) else none := by
            funext i
            unfold va_up
            by_cases q : i = p
            · subst q; rw [if_pos rfl, if_pos (by omega)]
            · rw [if_neg q]
              dsimp only
              by_cases q2 : i < p
              · rw [if_pos q2, if_pos (by omega)]
              · rw [if_neg q2, if_neg (by omega)]
          rw [e9]
        · by_cases e : q = p
          · subst e
            refine ⟨?_, ?_⟩
            · rw [e4, ahU_n (by omega), e3, ahU_s]; rfl
            · rw [show b + (113 + 2 * q + 1) = b + (113 + 2 * q) + 1 from by omega, e4, ahU_n (by omega), e3, ahU_n (by omega), ahU_s]
          · have hq2 : q < p := by omega
            obtain ⟨g1, g2⟩ := w.2.2 q hq2
            refine ⟨?_, ?_⟩
            · rw [e4, ahU_n (by omega), e3, ahU_n (by omega), ahU_n (by omega), e2, ahU_n (by omega)]; exact g1
            · rw [e4, ahU_n (by omega), e3, ahU_n (by omega), ahU_n (by omega), e2, ahU_n (by omega)]; exact g2
      have := ih (p + 1) (nI p + 1) h4 (by omega) (nI_1 p) w4
      rw [show 112 + 2 * (p + 1) = 112 + 2 * p + 1 + 1 from by omega, show 929 + 16 * (p + 1) = 929 + 16 * p + 4 + 12 from by omega, show b + (113 + 2 * (p + 1)) = b + (113 + 2 * p) + 1 + 1 from by omega] at this
      exact this
  refine X.walk wkX1_init fnil RetOk.no ⟨Nat.zero_le _, Nat.zero_le _⟩ [1] 1 rfl ?_
  refine X.objI pkX1_init rfl q131 q124 q125 rfl (by show 1 ≤ d; omega) (by show 0 + 12 ≤ 40 * d; omega) ?_
  have w : MkW G b 0 wD h h := ⟨hN, ho, fun o e h1 h2 => absurd h1 (by omega), fun _ _ => rfl⟩
  refine X.walk wkX1_init fnil RetOk.no ⟨Nat.zero_le _, Nat.zero_le _⟩ [7] 2 rfl ?_
  refine X.newI (N := 64) pkX1_init rfl q163 rfl rfl (by decide) (by show 0 + 1 ≤ 125; decide) (by show 0 + 64 ≤ 1028; decide) ?_
  intro h1 e1
  replace w := w.new e1 rfl
  refine X.walk wkX1_init fnil RetOk.no ⟨by show 1 ≤ 125; decide, by show 64 ≤ 1028; decide⟩ [15] 3 rfl ?_
  refine pF0 (okV_W rfl) w.2.1 (Nat.le_of_ble_eq_true rfl) hN ?_
  intro g1 f1
  replace w := w.put (fs' := [.ref (b + 1), .null, .null, .null, .null, .null, .null, .null, .null, .null, .null, .null, .int 0, .int 0, .int 0, .int 0, .int 0, .int 0, .int 0, .int 0, .int 0, .int 0, .int 0, .int 0, .int 0]) f1
  refine X.newI (N := 64) pkX1_init rfl q163 rfl rfl (by decide) (by show 1 + 1 ≤ 125; decide) (by show 64 + 64 ≤ 1028; decide) ?_
  intro h2 e2
  replace w := w.new e2 rfl
  refine X.walk wkX1_init fnil RetOk.no ⟨by show 2 ≤ 125; decide, by show 128 ≤ 1028; decide⟩ [23] 3 rfl ?_
  refine pF0 (okV_W rfl) w.2.1 (Nat.le_of_ble_eq_true rfl) hN ?_
  intro g2 f2
  replace w := w.put (fs' := [.ref (b + 1), .ref (b + 2), .null, .null, .null, .null, .null, .null, .null, .null, .null, .null, .int 0, .int 0, .int 0, .int 0, .int 0, .int 0, .int 0, .int 0, .int 0, .int 0, .int 0, .int 0, .int 0]) f2
  refine X.newI (N := 64) pkX1_init rfl q163 rfl rfl (by decide) (by show 2 + 1 ≤ 125; decide) (by show 128 + 64 ≤ 1028; decide) ?_
  intro h3 e3
  replace w := w.new e3 rfl
  refine X.walk wkX1_init fnil RetOk.no ⟨by show 3 ≤ 125; decide, by show 192 ≤ 1028; decide⟩ [31] 3 rfl ?_
  refine pF0 (okV_W rfl) w.2.1 (Nat.le_of_ble_eq_true rfl) hN ?_
  intro g3 f3
  replace w := w.put (fs' := [.ref (b + 1), .ref (b + 2), .ref (b + 3), .null, .null, .null, .null, .null, .null, .null, .null, .null, .int 0, .int 0, .int 0, .int 0, .int 0, .int 0, .int 0, .int 0, .int 0, .int 0, .int 0, .int 0, .int 0]) f3
  refine X.newI (N := 64) pkX1_init rfl q163 rfl rfl (by decide) (by show 3 + 1 ≤ 125; decide) (by show 192 + 64 ≤ 1028; decide) ?_
  intro h4 e4
  replace w := w.new e4 rfl
  refine X.walk wkX1_init fnil RetOk.no ⟨by show 4 ≤ 125; decide, by show 256 ≤ 1028; decide⟩ [39] 3 rfl ?_
  refine pF0 (okV_W rfl) w.2.1 (Nat.le_of_ble_eq_true rfl) hN ?_
  intro g4 f4
  replace w := w.put (fs' := [.ref (b + 1), .ref (b + 2), .ref (b + 3), .ref (b + 4), .null, .null, .null, .null, .null, .null, .null, .null, .int 0, .int 0, .int 0, .int 0, .int 0, .int 0, .int 0, .int 0, .int 0, .int 0, .int 0, .int 0, .int 0]) f4
  refine X.newI (N := 64) pkX1_init rfl q163 rfl rfl (by decide) (by show 4 + 1 ≤ 125; decide) (by show 256 + 64 ≤ 1028; decide) ?_
  intro h5 e5
  replace w := w.new e5 rfl
  refine X.walk wkX1_init fnil RetOk.no ⟨by show 5 ≤ 125; decide, by show 320 ≤ 1028; decide⟩ [47] 3 rfl ?_
  refine pF0 (okV_W rfl) w.2.1 (Nat.le_of_ble_eq_true rfl) hN ?_
  intro g5 f5
  replace w := w.put (fs' := [.ref (b + 1), .ref (b + 2), .ref (b + 3), .ref (b + 4), .ref (b + 5), .null, .null, .null, .null, .null, .null, .null, .int 0, .int 0, .int 0, .int 0, .int 0, .int 0, .int 0, .int 0, .int 0, .int 0, .int 0, .int 0, .int 0]) f5
  refine X.newI (N := 64) pkX1_init rfl q163 rfl rfl (by decide) (by show 5 + 1 ≤ 125; decide) (by show 320 + 64 ≤ 1028; decide) ?_
  intro h6 e6
  replace w := w.new e6 rfl
  refine X.walk wkX1_init fnil RetOk.no ⟨by show 6 ≤ 125; decide, by show 384 ≤ 1028; decide⟩ [55] 3 rfl ?_
  refine pF0 (okV_W rfl) w.2.1 (Nat.le_of_ble_eq_true rfl) hN ?_
  intro g6 f6
  replace w := w.put (fs' := [.ref (b + 1), .ref (b + 2), .ref (b + 3), .ref (b + 4), .ref (b + 5), .ref (b + 6), .null, .null, .null, .null, .null, .null, .int 0, .int 0, .int 0, .int 0, .int 0, .int 0, .int 0, .int 0, .int 0, .int 0, .int 0, .int 0, .int 0]) f6
  refine X.newI (N := 12) pkX1_init rfl q163 rfl rfl (by decide) (by show 6 + 1 ≤ 125; decide) (by show 384 + 12 ≤ 1028; decide) ?_
  intro h7 e7
  replace w := w.new e7 rfl
  refine X.walk wkX1_init fnil RetOk.no ⟨by show 7 ≤ 125; decide, by show 396 ≤ 1028; decide⟩ [63] 3 rfl ?_
  refine pF0 (okV_W rfl) w.2.1 (Nat.le_of_ble_eq_true rfl) hN ?_
  intro g7 f7
  replace w := w.put (fs' := [.ref (b + 1), .ref (b + 2), .ref (b + 3), .ref (b + 4), .ref (b + 5), .ref (b + 6), .ref (b + 7), .null, .null, .null, .null, .null, .int 0, .int 0, .int 0, .int 0, .int 0, .int 0, .int 0, .int 0, .int 0, .int 0, .int 0, .int 0, .int 0]) f7
  refine X.newI (N := 12) pkX1_init rfl q163 rfl rfl (by decide) (by show 7 + 1 ≤ 125; decide) (by show 396 + 12 ≤ 1028; decide) ?_
  intro h8 e8
  replace w := w.new e8 rfl
  refine X.walk wkX1_init fnil RetOk.no ⟨by show 8 ≤ 125; decide, by show 408 ≤ 1028; decide⟩ [71] 3 rfl ?_
  refine pF0 (okV_W rfl) w.2.1 (Nat.le_of_ble_eq_true rfl) hN ?_
  intro g8 f8
  replace w := w.put (fs' := [.ref (b + 1), .ref (b + 2), .ref (b + 3), .ref (b + 4), .ref (b + 5), .ref (b + 6), .ref (b + 7), .ref (b + 8), .null, .null, .null, .null, .int 0, .int 0, .int 0, .int 0, .int 0, .int 0, .int 0, .int 0, .int 0, .int 0, .int 0, .int 0, .int 0]) f8
  refine X.newI (N := 12) pkX1_init rfl q163 rfl rfl (by decide) (by show 8 + 1 ≤ 125; decide) (by show 408 + 12 ≤ 1028; decide) ?_
  intro h9 e9
  replace w := w.new e9 rfl
  refine X.walk wkX1_init fnil RetOk.no ⟨by show 9 ≤ 125; decide, by show 420 ≤ 1028; decide⟩ [80] 4 rfl ?_
  refine pF0 (okV_W rfl) w.2.1 (Nat.le_of_ble_eq_true rfl) hN ?_
  intro g9 f9
  replace w := w.put (fs' := [.ref (b + 1), .ref (b + 2), .ref (b + 3), .ref (b + 4), .ref (b + 5), .ref (b + 6), .ref (b + 7), .ref (b + 8), .ref (b + 9), .null, .null, .null, .int 0, .int 0, .int 0, .int 0, .int 0, .int 0, .int 0, .int 0, .int 0, .int 0, .int 0, .int 0, .int 0]) f9
  refine X.newG (n := 100) (k := 4) pkX1_init rfl q132 rfl (by decide) (by decide) (by show 9 + (1 + 100) ≤ 125; decide) (by show 420 + (100 + 100 * 4) ≤ 1028; decide) ?_
  intro h10 e10
  replace w := w.grid e10
  refine X.walk wkX1_init fnil RetOk.no ⟨by show 110 ≤ 125; decide, by show 920 ≤ 1028; decide⟩ [90] 3 rfl ?_
  refine pF0 (okV_W rfl) w.2.1 (Nat.le_of_ble_eq_true rfl) hN ?_
  intro g10 f10
  replace w := w.put (fs' := [.ref (b + 1), .ref (b + 2), .ref (b + 3), .ref (b + 4), .ref (b + 5), .ref (b + 6), .ref (b + 7), .ref (b + 8), .ref (b + 9), .ref (b + 10), .null, .null, .int 0, .int 0, .int 0, .int 0, .int 0, .int 0, .int 0, .int 0, .int 0, .int 0, .int 0, .int 0, .int 0]) f10
  refine X.newR (C := RX2) (t := 3) (N := 6) pkX1_init rfl q134 q135 rfl rfl rfl (by decide) (by show 110 + 1 ≤ 125; decide) (by show 920 + 6 ≤ 1028; decide) ?_
  intro h11 e11
  have p11 : h11 (b + 111) = some (aR G 3 6 (fun _ => none)) := by rw [e11]; exact ahU_s
  replace w := w.off e11 (by show b + 110 < b + 10 + (1 + 100); omega)
  refine X.walk wkX1_init fnil RetOk.no ⟨by show 111 ≤ 125; decide, by show 926 ≤ 1028; decide⟩ [97] 2 rfl ?_
  refine pF0 (okV_W rfl) w.2.1 (Nat.le_of_ble_eq_true rfl) hN ?_
  intro g11 f11
  replace w := w.put (fs' := [.ref (b + 1), .ref (b + 2), .ref (b + 3), .ref (b + 4), .ref (b + 5), .ref (b + 6), .ref (b + 7), .ref (b + 8), .ref (b + 9), .ref (b + 10), .ref (b + 111), .null, .int 0, .int 0, .int 0, .int 0, .int 0, .int 0, .int 0, .int 0, .int 0, .int 0, .int 0, .int 0, .int 0]) f11
  replace p11 : g11 (b + 111) = some (aR G 3 6 (fun _ => none)) := by rw [f11, ahU_n (by omega)]; exact p11
  refine X.newO (ci := 11) (fs := [.int 0, .null, .int 0]) tyJ2 pkX1_init rfl in_J2 tyJ2_ok q136 q137 q95 rfl (fun j hj => by match j, hj with | 0, _ => rfl | 1, _ => rfl | 2, _ => rfl) (by show 111 + 1 ≤ 125; decide) (by show 926 + 3 ≤ 1028; decide) ?_
  intro h12 e12
  replace e12 : h12 = ahU g11 (b + 112) (.inr (11, [.int 0, .null, .int 0])) := e12
  replace p11 : h12 (b + 111) = some (aR G 3 6 (fun _ => none)) := by rw [e12, ahU_n (by omega)]; exact p11
  have l12 : h12 (b + 112) = some (.inr (11, [.int 0, .null, .int 0])) := by rw [e12]; exact ahU_s
  replace w := w.off e12 (by omega)
  refine X.walk wkX1_init fnil RetOk.no ⟨by show 112 ≤ 125; decide, by show 929 ≤ 1028; decide⟩ [101] 1 rfl ?_
  refine X.callI (As := []) (rest := [.ref (b + 112), .ref b]) ckX1_52 pkX1_init rfl (c_lstInit (d := d - 1) (z := b + 113) (P := fun v h' z' => v = none ∧ z' = b + 113 ∧ h' = ahU h12 (b + 112) (.inr (11, lsF 0 (G.2.2.2 0) 0))) (by omega) (by omega) l12 (fun h' e => ⟨rfl, rfl, e⟩)) rfl rfl (Fit.K (by omega) (by decide) (by decide) (by decide)) (Nat.le_of_ble_eq_true rfl) ?_
  intro v h13 z13 hq
  obtain ⟨rfl, rfl, e13⟩ := hq
  replace p11 : h13 (b + 111) = some (aR G 3 6 (fun _ => none)) := by rw [e13, ahU_n (by omega)]; exact p11
  replace w := w.off e13 (by omega)
  refine X.walk wkX1_init fnil RetOk.no ⟨by show 112 ≤ 125; decide, by show 929 ≤ 1028; decide⟩ [109] 3 rfl ?_
  refine pF0 (okV_W rfl) w.2.1 (Nat.le_of_ble_eq_true rfl) hN ?_
  intro g13 f13
  replace w := w.put (fs' := wF b zS (b + 112)) f13
  replace p11 : g13 (b + 111) = some (aR G 3 6 (fun _ => none)) := by rw [f13, ahU_n (by omega)]; exact p11
  refine loop 6 0 _ g13 rfl rfl ⟨w, ?_, fun q hq => absurd hq (by omega)⟩
  rw [p11]
  have e9 : (fun (_ : Nat) => (none : Option Nat)) = fun i => if i < 0 then some (b + (113 + 2 * i)) else none := funext fun i => by rw [if_neg (by omega)]
  rw [e9]
