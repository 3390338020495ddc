set_option maxRecDepth 100000
/-! THE CLASS'S OBJECT IS MADE -/
theorem wb_s {x j : Nat} (h : j ≠ 2) : wb x j + 126 = wb x (j + 1) := by
  unfold wb wo
  by_cases h3 : j < 3
  · rw [if_pos h3, if_pos (by omega)]; omega
  · rw [if_neg h3, if_neg (by omega)]; omega
theorem wb_2 {x : Nat} : wb x 2 + 126 = x + 380 := by
  unfold wb wo
  rw [if_pos (by omega)]
theorem wb_3 {x : Nat} : x + 380 + 1 = wb x 3 := by
  unfold wb wo
  rw [if_neg (by omega)]
theorem wb_15 {x : Nat} : wb x 15 = x + 1893 := by
  unfold wb wo
  rw [if_neg (by omega)]
theorem wb_lt {x j n : Nat} (h : j < n) : wb x j + 126 ≤ wb x n := by
  unfold wb wo
  by_cases h3 : n < 3
  · rw [if_pos h3, if_pos (by omega)]; omega
  · rw [if_neg h3]
    by_cases h4 : j < 3
    · rw [if_pos h4]; omega
    · rw [if_neg h4]; omega
theorem wb_ge {x j : Nat} : x + 2 ≤ wb x j := by
  unfold wb wo
  split <;> omega
theorem wb_38 {x j : Nat} : wb x j + 126 ≤ x + 380 ∨ x + 381 ≤ wb x j := by
  unfold wb wo
  split <;> omega
/-- the object in the making: n woods made -/
def MkX (G : GG) (x n : Nat) (fs : List Value) (h0 h : AH) : Prop := G.2.2.1.size ≤ x ∧ h x = some (.inr (0, fs)) ∧ h (x + 1) = some (.inl (G.2.1 1, 400, .inl (fun _ => 0))) ∧ (∀ j, j < n → IsWood G (wb x j) (begF zS 6 6) (wb x j + 125) h ∧ h (wb x j + 125) = some (.inr (11, lsF 0 (G.2.2.2 0) 0))) ∧ ∀ a, a < x → h a = h0 a
section MX
variable {G : GG} {x n : Nat} {fs : List Value} {h0 h h1 h2 : AH}
theorem MkX.go (w : MkX G x n fs h0 h) {fs' : List Value} {B : Nat} (hx : h2 x = some (.inr (0, fs'))) (hf : ∀ a, a ≠ x → a ≠ x + 380 → a < B → h2 a = h a) (hB : x + 2 ≤ B) (hn : ∀ j, j < n → wb x j + 126 ≤ B) : MkX G x n fs' h0 h2 := by
  obtain ⟨w1, w2, w3, w4, w5⟩ := w
  refine ⟨w1, hx, by rw [hf (x + 1) (by omega) (by omega) (by omega)]; exact w3, fun j hj => ?_, fun a ha => by rw [hf a (by omega) (by omega) (by omega)]; exact w5 a ha⟩
  have g1 := hn j hj
  have g2 := wb_ge (x := x) (j := j)
  have g3 := wb_38 (x := x) (j := j)
  obtain ⟨a1, a2⟩ := w4 j hj
  exact ⟨a1.fr (fun o h3 h4 => hf _ (by omega) (by omega) (by omega)), by rw [hf _ (by omega) (by omega) (by omega)]; exact a2⟩
theorem MkX.wood (w : MkX G x n fs h0 h) {E : va_E} (e : h1 = ahU h (wb x n) E) (q1 : IsWood G (wb x n) (begF zS 6 6) (wb x n + 125) h2) (q2 : h2 (wb x n + 125) = some (.inr (11, lsF 0 (G.2.2.2 0) 0))) (q3 : ∀ a, a < wb x n → h2 a = h1 a) : MkX G x (n + 1) fs h0 h2 := by
  have hf : ∀ a, a ≠ x → a ≠ x + 380 → a < wb x n → h2 a = h a := fun a _ _ ha => by rw [q3 a ha, e, ahU_n (by omega)]
  have hx : h2 x = some (.inr (0, fs)) := by
    have := wb_ge (x := x) (j := n)
    rw [q3 x (by omega), e, ahU_n (by omega)]; exact w.2.1
  have w' := w.go hx hf wb_ge (fun j hj => wb_lt hj)
  refine ⟨w'.1, w'.2.1, w'.2.2.1, fun j hj => ?_, w'.2.2.2.2⟩
  by_cases ej : j = n
  · subst ej; exact ⟨q1, q2⟩
  · exact w'.2.2.2.1 j (by omega)
theorem MkX.put (w : MkX G x n fs h0 h) {fs' : List Value} (e : h2 = ahU h x (.inr (0, fs'))) : MkX G x n fs' h0 h2 :=
  w.go (B := wb x n) (by rw [e]; exact ahU_s) (fun a ha _ _ => by rw [e, ahU_n ha]) wb_ge (fun j hj => wb_lt hj)
end MX
def xD : List Value := [.null, .int 0, .int 0, .int 0, .null, .null, .null, .null, .int 0, .int 0, .null, .null]
/-- the class's world when it is made -/
def W0 (x : Nat) : XW := XW.mk (fun k => if k = 3 then -1 else 0) (fun _ => 0) (fun _ => begF zS 6 6) (fun j => wb x j + 125) (fun _ => []) (fun k => k) (fun _ _ => 0) (fun _ => 0)
theorem wD_ok : ∀ j, j < 25 → defaultValue (tyX1 j) = vp_V wD j := fun j hj => by match j, hj with | 0, _ => exact rfl | 1, _ => exact rfl | 2, _ => exact rfl | 3, _ => exact rfl | 4, _ => exact rfl | 5, _ => exact rfl | 6, _ => exact rfl | 7, _ => exact rfl | 8, _ => exact rfl | 9, _ => exact rfl | 10, _ => exact rfl | 11, _ => exact rfl | 12, _ => exact rfl | 13, _ => exact rfl | 14, _ => exact rfl | 15, _ => exact rfl | 16, _ => exact rfl | 17, _ => exact rfl | 18, _ => exact rfl | 19, _ => exact rfl | 20, _ => exact rfl | 21, _ => exact rfl | 22, _ => exact rfl | 23, _ => exact rfl | 24, _ => exact rfl | n + 25, h => exact absurd h (by omega)
theorem xD_ok : ∀ j, j < 12 → defaultValue (tyX0 j) = vp_V xD j := fun j hj => by match j, hj with | 0, _ => exact rfl | 1, _ => exact rfl | 2, _ => exact rfl | 3, _ => exact rfl | 4, _ => exact rfl | 5, _ => exact rfl | 6, _ => exact rfl | 7, _ => exact rfl | 8, _ => exact rfl | 9, _ => exact rfl | 10, _ => exact rfl | 11, _ => exact rfl | n + 12, h => exact absurd h (by omega)
theorem x_init {l : Launch} {G : GG} {d : Nat} (hd : 8 ≤ d) {x : Nat} {h : AH} (hN : G.2.2.1.size ≤ x) (ho : h x = some (.inr (0, xD))) {P : Option Value → AH → Nat → Prop} (hs : ∀ h', IsX G x (W0 x) h' → (∀ a, a < x → h' a = h a) → P none h' (x + 1959)) : Ct l G mX0_init d 1958 20379 [.ref x] h (x + 1) P := by
  refine Ct.of rfl (Nat.le_of_ble_eq_true rfl) rfl ?_
  have hNw : ∀ j, G.2.2.1.size ≤ wb x j := fun j => by have := wb_ge (x := x) (j := j); omega
  have loop : ∀ (n k : Nat) (i : Int32) (h1 : AH), k + n = 12 → i = nI k → MkX G x (3 + k) [.ref (x + 1), .int 0, .int 0, .int (-1), .ref (wb x 0), .ref (wb x 1), .ref (wb x 2), .ref (x + 380), .int 0, .int 0, .null, .null] h h1 → h1 (x + 380) = some (aR G 4 12 (fun i => if i < k then some (wb x (3 + i)) else none)) → X l G mX0_init (rmK d 1958 20379) (TGm G P 1958 20379) (380 + 126 * k) (3571 + 1053 * k) 62 [(0, .ref x), (1, .int i)] [] h1 (wb x (3 + k)) := by
    intro n
    induction n with
    | zero =>
      intro k i h1 hk hi w hbk
      obtain rfl : k = 12 := by omega
      subst hi
      refine X.walk wkX0_init fnil RetOk.no ⟨by show 380 + 126 * 12 ≤ 1958; decide, by show 3571 + 1053 * 12 ≤ 20379; decide⟩ [87, 68] 3 rfl ?_
      refine And.intro (fun _ => ?_) (fun b9 => absurd (by decide) b9)
      rw [show wb x (3 + 12) = x + 1893 from wb_15]
      refine X.cong hbk (aR_cong (g := fun k => some (wb x (3 + k))) (fun j hj => by rw [if_pos hj])) ?_
      generalize e1 : ahU h1 (x + 380) (aR G 4 12 (fun k => some (wb x (3 + k)))) = h2
      have w2 : MkX G x 15 [.ref (x + 1), .int 0, .int 0, .int (-1), .ref (wb x 0), .ref (wb x 1), .ref (wb x 2), .ref (x + 380), .int 0, .int 0, .null, .null] h h2 := w.go (B := wb x 15) (by rw [← e1, ahU_n (by omega)]; exact w.2.1) (fun a _ ha _ => by rw [← e1, ahU_n ha]) wb_ge (fun j hj => wb_lt hj)
      have hbk2 : h2 (x + 380) = some (aR G 4 12 (fun k => some (wb x (3 + k)))) := by rw [← e1]; exact ahU_s
      have b15 : wb x 15 = x + 1893 := wb_15
      refine X.walk wkX0_init fnil RetOk.no ⟨by show 380 + 126 * 12 ≤ 1958; decide, by show 3571 + 1053 * 12 ≤ 20379; decide⟩ [92] 3 rfl ?_
      refine X.newG (n := 64) (k := 64) pkX0_init rfl q291 rfl (by decide) (by decide) (by show 380 + 126 * 12 + (1 + 64) ≤ 1958; decide) (by show 3571 + 1053 * 12 + (64 + 64 * 64) ≤ 20379; decide) ?_
      intro h3 e3
      have lo3 : ∀ a, a < x + 1893 → h3 a = h2 a := fun a ha => by rw [e3]; unfold grd; rw [if_neg (by omega), if_neg (by omega)]
      have w3 : MkX G x 15 [.ref (x + 1), .int 0, .int 0, .int (-1), .ref (wb x 0), .ref (wb x 1), .ref (wb x 2), .ref (x + 380), .int 0, .int 0, .null, .null] h h3 := w2.go (B := wb x 15) (by rw [lo3 x (by omega)]; exact w2.2.1) (fun a _ _ ha => lo3 a (by omega)) wb_ge (fun j hj => wb_lt hj)
      have hrs : h3 (x + 1893) = some (aR G 2 64 (fun i => some (x + (1894 + i)))) := by
        rw [e3]; unfold grd; rw [if_pos rfl]
        have e9 : (fun i => some (x + 1893 + (1 + i))) = fun i => some (x + (1894 + i)) := funext fun i => by rw [show x + 1893 + (1 + i) = x + (1894 + i) from by omega]
        rw [e9]
      have hrw : ∀ i, i < 64 → h3 (x + (1894 + i)) = some (aI G 64 (fun _ => 0)) := fun i hi => by
        rw [e3]; unfold grd; rw [if_neg (by omega), if_pos (by omega)]
      refine X.walk wkX0_init fnil RetOk.no ⟨by show 380 + 126 * 12 + 1 + 64 ≤ 1958; decide, by show 3571 + 1053 * 12 + 64 + 64 * 64 ≤ 20379; decide⟩ [102] 3 rfl ?_
      refine pF0 (okV_W rfl) w3.2.1 (Nat.le_of_ble_eq_true rfl) hN ?_
      intro h4 e4
      have w4 := w3.put (fs' := [.ref (x + 1), .int 0, .int 0, .int (-1), .ref (wb x 0), .ref (wb x 1), .ref (wb x 2), .ref (x + 380), .int 0, .int 0, .ref (x + 1893), .null]) e4
      refine X.newI (N := 12) pkX0_init rfl q163 rfl rfl (by decide) (by show 380 + 126 * 12 + 1 + 64 + 1 ≤ 1958; decide) (by show 3571 + 1053 * 12 + 64 + 64 * 64 + 12 ≤ 20379; decide) ?_
      intro h5 e5
      replace e5 : h5 = ahU h4 (x + 1958) (aI G 12 (fun _ => 0)) := e5
      have w5 : MkX G x 15 [.ref (x + 1), .int 0, .int 0, .int (-1), .ref (wb x 0), .ref (wb x 1), .ref (wb x 2), .ref (x + 380), .int 0, .int 0, .ref (x + 1893), .null] h h5 := w4.go (B := wb x 15) (by rw [e5, ahU_n (by omega)]; exact w4.2.1) (fun a _ _ ha => by rw [e5, ahU_n (by omega)]) wb_ge (fun j hj => wb_lt hj)
      refine X.walk wkX0_init fnil (RetOk.m (by decide) (by decide)) ⟨by show 380 + 126 * 12 + 1 + 64 + 1 ≤ 1958; decide, by show 3571 + 1053 * 12 + 64 + 64 * 64 + 12 ≤ 20379; decide⟩ [] 2 rfl ?_
      refine pF0 (okV_W rfl) w5.2.1 (Nat.le_of_ble_eq_true rfl) hN ?_
      intro h6 e6
      have w6 := w5.put (fs' := xF x (W0 x).F) e6
      have up : ∀ a, a ≠ x → a ≠ x + 1958 → h6 a = h3 a := fun a h1 h2 => by rw [e6, ahU_n h1, e5, ahU_n h2, e4, ahU_n h1]
      refine hs h6 (IsX.mk0 hN w6.2.1 w6.2.2.1 ?_ ?_ ?_ ?_ (fun j hj => (w6.2.2.2.1 j hj).1) (fun j hj => ⟨0, G.2.2.2 0, ?_, Nat.zero_le _, Or.inl rfl⟩) (fun k hk => hk) (fun k k' _ _ e => e)) w6.2.2.2.2
      · rw [up _ (by omega) (by omega), lo3 _ (by omega)]; exact hbk2
      · rw [up _ (by omega) (by omega)]; exact hrs
      · intro i hi
        rw [up _ (by omega) (by omega)]; exact hrw i hi
      · rw [e6, ahU_n (by omega), e5]; exact ahU_s
      · show cut x h6 (wb x j + 125) = _
        unfold cut
        rw [lawZ_j hj]; exact (w6.2.2.2.1 j hj).2
    | succ n ih =>
      intro k i h1 hk hi w hbk
      subst hi
      have hk12 : k < 12 := by omega
      refine X.walk wkX0_init fnil RetOk.no ⟨by show 380 + 126 * k ≤ 1958; omega, by show 3571 + 1053 * k ≤ 20379; omega⟩ [87, 73] 6 rfl ?_
      refine And.intro (fun b9 => ?_) (fun _ => ?_)
      · exact absurd ((nI_leI (a := 12) (b := k) (by decide) (by omega)).mp b9) (by omega)
      refine gF w.2.1 ?_
      refine X.newO (ci := 1) (fs := wD) tyX1 pkX0_init rfl in_X1 tyX1_ok q126 q127 q92 rfl wD_ok (by show 380 + 126 * k + 1 ≤ 1958; omega) (by show 3571 + 1053 * k + 25 ≤ 20379; omega) ?_
      intro h2 e2
      refine X.walk wkX0_init fnil RetOk.no ⟨by show 380 + 126 * k + 1 ≤ 1958; omega, by show 3571 + 1053 * k + 25 ≤ 20379; omega⟩ [77] 1 rfl ?_
      refine X.callI (As := []) (rest := [.ref (wb x (3 + k)), .int (nI k), .ref (x + 380)]) ckX0_19 pkX0_init rfl (c_wInit (d := d - 1) (by omega) (hNw _) (by rw [e2]; exact ahU_s) (P := fun v h' z' => v = none ∧ z' = wb x (3 + (k + 1)) ∧ IsWood G (wb x (3 + k)) (begF zS 6 6) (wb x (3 + k) + 125) h' ∧ h' (wb x (3 + k) + 125) = some (.inr (11, lsF 0 (G.2.2.2 0) 0)) ∧ ∀ a, a < wb x (3 + k) → h' a = h2 a) (fun h' q1 q2 q3 => ⟨rfl, wb_s (by omega), q1, q2, q3⟩)) rfl rfl (Fit.K (by omega) (by decide) (by omega) (by omega)) (Nat.le_of_ble_eq_true rfl) ?_
      intro v h3 z3 hq
      obtain ⟨rfl, rfl, q1, q2, q3⟩ := hq
      have w3 : MkX G x (3 + k + 1) [.ref (x + 1), .int 0, .int 0, .int (-1), .ref (wb x 0), .ref (wb x 1), .ref (wb x 2), .ref (x + 380), .int 0, .int 0, .null, .null] h h3 := w.wood e2 q1 q2 q3
      have b3k : x + 381 ≤ wb x (3 + k) := by have := wb_lt (x := x) (j := 2) (n := 3 + k) (by omega); have := wb_2 (x := x); have := wb_38 (x := x) (j := 3 + k); omega
      have hbk3 : h3 (x + 380) = some (aR G 4 12 (fun i => if i < k then some (wb x (3 + i)) else none)) := by rw [q3 _ (by omega), e2, ahU_n (by omega)]; exact hbk
      refine X.aast (t := 4) (ci := 1) (v := wb x (3 + k)) (C := RX1) (T := TX1) (N := 25) pkX0_init rfl hbk3 rfl q1.obj rfl (ixN hk12 (by decide)) (by omega) rfl ?_
      intro h4 e4
      refine X.walk wkX0_init fnil RetOk.no ⟨by show 380 + 126 * k + 1 + 125 ≤ 1958; omega, by show 3571 + 1053 * k + 25 + 1028 ≤ 20379; omega⟩ [62] 2 rfl ?_
      have w4 : MkX G x (3 + (k + 1)) [.ref (x + 1), .int 0, .int 0, .int (-1), .ref (wb x 0), .ref (wb x 1), .ref (wb x 2), .ref (x + 380), .int 0, .int 0, .null, .null] h h4 := w3.go (B := wb x (3 + (k + 1))) (by rw [e4, ahU_n (by omega)]; exact w3.2.1) (fun a _ ha _ => by rw [e4, ahU_n ha]) wb_ge (fun j hj => wb_lt hj)
      have hbk4 : h4 (x + 380) = some (aR G 4 12 (fun i => if i < k + 1 then some (wb x (3 + i)) else none)) := by
        rw [e4, ahU_s]
        have e9 : va_up (fun i => if i < k then some (wb x (3 + i)) else none) k (some (wb x (3 + k))) = fun i => if i < k + 1 then some (wb x (3 + i)) else none := by
          funext i
          unfold va_up
          by_cases q : i = k
          · subst q; rw [if_pos rfl, if_pos (by omega)]
          · rw [if_neg q]
            dsimp only
            by_cases q2 : i < k
            · rw [if_pos q2, if_pos (by omega)]
            · rw [if_neg q2, if_neg (by omega)]
        rw [e9]
      have := ih (k + 1) (nI k + 1) h4 (by omega) (nI_1 k) w4 hbk4
      rw [show 380 + 126 * (k + 1) = 380 + 126 * k + 1 + 125 from by omega, show 3571 + 1053 * (k + 1) = 3571 + 1053 * k + 25 + 1028 from by omega] at this
      exact this
  refine X.walk wkX0_init fnil RetOk.no ⟨Nat.zero_le _, Nat.zero_le _⟩ [1] 1 rfl ?_
  refine X.objI pkX0_init rfl q123 q124 q125 rfl (by show 1 ≤ d; omega) (by show 0 + 12 ≤ 40 * d; omega) ?_
  refine X.walk wkX0_init fnil RetOk.no ⟨Nat.zero_le _, Nat.zero_le _⟩ [8] 2 rfl ?_
  refine X.newB (N := 400) pkX0_init rfl q162 rfl rfl (by decide) (by show 0 + 1 ≤ 1958; decide) (by show 0 + 400 ≤ 20379; decide) ?_
  intro h1 e1
  have w : MkX G x 0 xD h h1 := ⟨hN, by rw [e1, ahU_n (by omega)]; exact ho, by rw [e1]; exact ahU_s, fun j hj => absurd hj (by omega), fun a ha => by rw [e1, ahU_n (by omega)]⟩
  rw [show x + 1 + 1 = wb x 0 from rfl]
  refine X.walk wkX0_init fnil RetOk.no ⟨by show 1 ≤ 1958; decide, by show 400 ≤ 20379; decide⟩ [19] 5 rfl ?_
  refine pF0 (okV_W rfl) w.2.1 (Nat.le_of_ble_eq_true rfl) hN ?_
  intro h2 e2
  replace w := w.put (fs' := [.ref (x + 1), .int 0, .int 0, .int 0, .null, .null, .null, .null, .int 0, .int 0, .null, .null]) e2
  refine pF0 (okV_W rfl) w.2.1 (Nat.le_of_ble_eq_true rfl) hN ?_
  intro h3 e3
  replace w := w.put (fs' := [.ref (x + 1), .int 0, .int 0, .int (-1), .null, .null, .null, .null, .int 0, .int 0, .null, .null]) e3
  refine X.newO (ci := 1) (fs := wD) tyX1 pkX0_init rfl in_X1 tyX1_ok q126 q127 q92 rfl wD_ok (by show 1 + 1 ≤ 1958; decide) (by show 400 + 25 ≤ 20379; decide) ?_
  intro a0 b0
  refine X.walk wkX0_init fnil RetOk.no ⟨by show 2 ≤ 1958; decide, by show 425 ≤ 20379; decide⟩ [23] 1 rfl ?_
  refine X.callI (As := []) (rest := [.ref (wb x 0), .ref x]) ckX0_19 pkX0_init rfl (c_wInit (d := d - 1) (by omega) (hNw _) (by rw [b0]; exact ahU_s) (P := fun v h' z' => v = none ∧ z' = wb x 1 ∧ IsWood G (wb x 0) (begF zS 6 6) (wb x 0 + 125) h' ∧ h' (wb x 0 + 125) = some (.inr (11, lsF 0 (G.2.2.2 0) 0)) ∧ ∀ a, a < wb x 0 → h' a = a0 a) (fun h' q1 q2 q3 => ⟨rfl, wb_s (by decide), q1, q2, q3⟩)) rfl rfl (Fit.K (by omega) (by decide) (by decide) (by decide)) (Nat.le_of_ble_eq_true rfl) ?_
  intro v c0 z0 hq
  obtain ⟨rfl, rfl, q1, q2, q3⟩ := hq
  replace w := w.wood b0 q1 q2 q3
  refine X.walk wkX0_init fnil RetOk.no ⟨by show 127 ≤ 1958; decide, by show 1453 ≤ 20379; decide⟩ [30] 2 rfl ?_
  refine pF0 (okV_W rfl) w.2.1 (Nat.le_of_ble_eq_true rfl) hN ?_
  intro d0 f0
  replace w := w.put (fs' := [.ref (x + 1), .int 0, .int 0, .int (-1), .ref (wb x 0), .null, .null, .null, .int 0, .int 0, .null, .null]) f0
  refine X.newO (ci := 1) (fs := wD) tyX1 pkX0_init rfl in_X1 tyX1_ok q126 q127 q92 rfl wD_ok (by show 127 + 1 ≤ 1958; decide) (by show 1453 + 25 ≤ 20379; decide) ?_
  intro a1 b1
  refine X.walk wkX0_init fnil RetOk.no ⟨by show 128 ≤ 1958; decide, by show 1478 ≤ 20379; decide⟩ [34] 1 rfl ?_
  refine X.callI (As := []) (rest := [.ref (wb x 1), .ref x]) ckX0_19 pkX0_init rfl (c_wInit (d := d - 1) (by omega) (hNw _) (by rw [b1]; exact ahU_s) (P := fun v h' z' => v = none ∧ z' = wb x 2 ∧ IsWood G (wb x 1) (begF zS 6 6) (wb x 1 + 125) h' ∧ h' (wb x 1 + 125) = some (.inr (11, lsF 0 (G.2.2.2 0) 0)) ∧ ∀ a, a < wb x 1 → h' a = a1 a) (fun h' q1 q2 q3 => ⟨rfl, wb_s (by decide), q1, q2, q3⟩)) rfl rfl (Fit.K (by omega) (by decide) (by decide) (by decide)) (Nat.le_of_ble_eq_true rfl) ?_
  intro v c1 z1 hq
  obtain ⟨rfl, rfl, q1, q2, q3⟩ := hq
  replace w := w.wood b1 q1 q2 q3
  refine X.walk wkX0_init fnil RetOk.no ⟨by show 253 ≤ 1958; decide, by show 2506 ≤ 20379; decide⟩ [41] 2 rfl ?_
  refine pF0 (okV_W rfl) w.2.1 (Nat.le_of_ble_eq_true rfl) hN ?_
  intro d1 f1
  replace w := w.put (fs' := [.ref (x + 1), .int 0, .int 0, .int (-1), .ref (wb x 0), .ref (wb x 1), .null, .null, .int 0, .int 0, .null, .null]) f1
  refine X.newO (ci := 1) (fs := wD) tyX1 pkX0_init rfl in_X1 tyX1_ok q126 q127 q92 rfl wD_ok (by show 253 + 1 ≤ 1958; decide) (by show 2506 + 25 ≤ 20379; decide) ?_
  intro a2 b2
  refine X.walk wkX0_init fnil RetOk.no ⟨by show 254 ≤ 1958; decide, by show 2531 ≤ 20379; decide⟩ [45] 1 rfl ?_
  refine X.callI (As := []) (rest := [.ref (wb x 2), .ref x]) ckX0_19 pkX0_init rfl (c_wInit (d := d - 1) (by omega) (hNw _) (by rw [b2]; exact ahU_s) (P := fun v h' z' => v = none ∧ z' = x + 380 ∧ IsWood G (wb x 2) (begF zS 6 6) (wb x 2 + 125) h' ∧ h' (wb x 2 + 125) = some (.inr (11, lsF 0 (G.2.2.2 0) 0)) ∧ ∀ a, a < wb x 2 → h' a = a2 a) (fun h' q1 q2 q3 => ⟨rfl, wb_2, q1, q2, q3⟩)) rfl rfl (Fit.K (by omega) (by decide) (by decide) (by decide)) (Nat.le_of_ble_eq_true rfl) ?_
  intro v c2 z2 hq
  obtain ⟨rfl, rfl, q1, q2, q3⟩ := hq
  replace w := w.wood b2 q1 q2 q3
  refine X.walk wkX0_init fnil RetOk.no ⟨by show 379 ≤ 1958; decide, by show 3559 ≤ 20379; decide⟩ [54] 3 rfl ?_
  refine pF0 (okV_W rfl) w.2.1 (Nat.le_of_ble_eq_true rfl) hN ?_
  intro d2 f2
  replace w := w.put (fs' := [.ref (x + 1), .int 0, .int 0, .int (-1), .ref (wb x 0), .ref (wb x 1), .ref (wb x 2), .null, .int 0, .int 0, .null, .null]) f2
  refine X.newR (C := RX1) (t := 4) (N := 12) pkX0_init rfl q126 q290 rfl rfl rfl (by decide) (by show 379 + 1 ≤ 1958; decide) (by show 3559 + 12 ≤ 20379; decide) ?_
  intro h7 e7
  rw [show x + 380 + 1 = wb x 3 from wb_3]
  have hbk : h7 (x + 380) = some (aR G 4 12 (fun _ => none)) := by rw [e7]; exact ahU_s
  have b2 : wb x 2 + 126 = x + 380 := wb_2
  replace w : MkX G x 3 [.ref (x + 1), .int 0, .int 0, .int (-1), .ref (wb x 0), .ref (wb x 1), .ref (wb x 2), .null, .int 0, .int 0, .null, .null] h h7 := w.go (B := x + 380) (by rw [e7, ahU_n (by omega)]; exact w.2.1) (fun a _ ha _ => by rw [e7, ahU_n ha]) (by omega) (fun j hj => by have := wb_lt (x := x) (j := j) (n := 3) hj; have := wb_38 (x := x) (j := j); have := wb_3 (x := x); omega)
  refine X.walk wkX0_init fnil RetOk.no ⟨by show 380 ≤ 1958; decide, by show 3571 ≤ 20379; decide⟩ [62] 3 rfl ?_
  refine pF0 (okV_W rfl) w.2.1 (Nat.le_of_ble_eq_true rfl) hN ?_
  intro h8 e8
  replace w := w.put (fs' := [.ref (x + 1), .int 0, .int 0, .int (-1), .ref (wb x 0), .ref (wb x 1), .ref (wb x 2), .ref (x + 380), .int 0, .int 0, .null, .null]) e8
  refine loop 12 0 _ h8 rfl rfl w ?_
  rw [e8, ahU_n (by omega), hbk]
  have e9 : (fun (_ : Nat) => (none : Option Nat)) = fun i => if i < 0 then some (wb x (3 + i)) else none := funext fun i => by rw [if_neg (by omega)]
  rw [e9]
