set_option maxRecDepth 100000
/-! WHAT IS SET, of the wood and of the model -/
/-- the cells of people are as they were -/
def Hq (S S' : SS) : Prop := ∀ o, 113 ≤ o → S' o = S o
theorem xn4q {S S' : SS} (hi : Hq S S') (r : XN S S) (h16 : S' 0 16 = S 0 16) (hc : ∀ c, isCellB S' c = isCellB S c) : ∀ p, p < gN (S' 0 16) → Bd 63 (S' (113 + 2 * p) 1) ∧ isCellB S' (S' (113 + 2 * p) 1) = true := by
  intro p hp
  rw [h16] at hp
  rw [hi _ (by omega), hc]; exact r 4 p hp
theorem xn5q {S S' : SS} (hi : Hq S S') (r : XN S S) (h16 : S' 0 16 = S 0 16) : ∀ p, p < gN (S' 0 16) → Bd 99 (S' (113 + 2 * p) 2) := by
  intro p hp
  rw [h16] at hp
  rw [hi _ (by omega)]; exact r 5 p hp
section RNH
variable {S S' : SS} {N N' : Nat → Int32}
theorem rn6q (hi : Hq S S') (r : RN S (gN (S 0 16)) N) (h6 : gN (S 0 16) ≤ 6) (h16 : S' 0 16 = S 0 16) (hN : ∀ j, 256 ≤ j → j < 346 → N' j = N j) : ∀ p, p < gN (S' 0 16) → N' (256 + p) = S' (113 + 2 * p) 1 := by
  intro p hp
  rw [h16] at hp
  rw [hi _ (by omega), hN _ (by omega) (by omega)]; exact r 6 p hp
theorem rn7q (hi : Hq S S') (r : RN S (gN (S 0 16)) N) (h6 : gN (S 0 16) ≤ 6) (h16 : S' 0 16 = S 0 16) (hN : ∀ j, 256 ≤ j → j < 346 → N' j = N j) : ∀ p, p < gN (S' 0 16) → N' (262 + p) = S' (113 + 2 * p) 2 := by
  intro p hp
  rw [h16] at hp
  rw [hi _ (by omega), hN _ (by omega) (by omega)]; exact r 7 p hp
theorem rn8q (hi : Hq S S') (r : RN S (gN (S 0 16)) N) (h6 : gN (S 0 16) ≤ 6) (h16 : S' 0 16 = S 0 16) (hN : ∀ j, 256 ≤ j → j < 346 → N' j = N j) : ∀ p, p < gN (S' 0 16) → N' (268 + p) = S' (113 + 2 * p) 3 := by
  intro p hp
  rw [h16] at hp
  rw [hi _ (by omega), hN _ (by omega) (by omega)]; exact r 8 p hp
theorem rn9q (hi : Hq S S') (r : RN S (gN (S 0 16)) N) (h6 : gN (S 0 16) ≤ 6) (h16 : S' 0 16 = S 0 16) (hN : ∀ j, 256 ≤ j → j < 346 → N' j = N j) : ∀ p w, p < gN (S' 0 16) → w < 12 → N' (274 + 12 * p + w) = S' (113 + 2 * p + 1) w := by
  intro p w hp hw
  rw [h16] at hp
  rw [hi _ (by omega), hN _ (by omega) (by omega)]; exact r 9 p w hp hw
end RNH
section ST
variable {S M : SS} {L : List Line9}
theorem RW.c24 (r : RW S L M) (x : Int32) : RW (up2 S 0 24 x) L M := by
  have hi : Hi S (up2 S 0 24 x) := fun o ho => up2_n (by omega)
  have hN : ∀ j, 256 ≤ j → j < 346 → M 1 j = M 1 j := fun j _ _ => rfl
  refine ⟨XB.of (r.1 0) (r.1 1) (r.1 2) (r.1 3) (r.1 4) (r.1 5) (r.1 6) (r.1 7) (r.1 8) (r.1 9) (r.1 10), XN.of (r.2.1 0) (r.2.1 1) (r.2.1 2) (r.2.1 3) (xn4 hi r.2.1 rfl (fun _ => rfl)) (xn5 hi r.2.1 rfl), RN.of (r.2.2.1 0) (r.2.2.1 1) (r.2.2.1 2) (r.2.2.1 3) (r.2.2.1 4) (r.2.2.1 5) (rn6 hi r.2.2.1 (r.1 4).2 rfl hN) (rn7 hi r.2.2.1 (r.1 4).2 rfl hN) (rn8 hi r.2.2.1 (r.1 4).2 rfl hN) (rn9 hi r.2.2.1 (r.1 4).2 rfl hN) (rn10 r.2.2.1 rfl hN), RB.of (r.2.2.2.1 0) (r.2.2.2.1 1) (r.2.2.2.1 2) (r.2.2.2.1 3) (r.2.2.2.1 4) (r.2.2.2.1 5) (r.2.2.2.1 6) (r.2.2.2.1 7) (r.2.2.2.1 8) (r.2.2.2.1 9) (r.2.2.2.1 10) (r.2.2.2.1 11) (rb12 hi r.2.2.2.1 rfl rfl), r.2.2.2.2.chg rfl rfl rfl rfl rfl rfl⟩
theorem RW.damp (r : RW S L M) {c : Nat} {x : Int32} (hc : c < 64) (hx : Bd 99 x) : RW (up2 S 1 c x) L (up2 M 3 c (x - 10)) := by
  have hi : Hi S (up2 S 1 c x) := fun o ho => up2_n (by omega)
  have hN : ∀ j, 256 ≤ j → j < 346 → up2 M 3 c (x - 10) 1 j = M 1 j := fun j _ _ => rfl
  refine ⟨XB.of (r.1 0) (r.1 1) (r.1 2) (r.1 3) (r.1 4) (r.1 5) (r.1 6) (r.1 7) (r.1 8) ?_ (r.1 10), XN.of (r.2.1 0) (r.2.1 1) (r.2.1 2) (r.2.1 3) (xn4 hi r.2.1 rfl (fun _ => rfl)) (xn5 hi r.2.1 rfl), RN.of (r.2.2.1 0) (r.2.2.1 1) (r.2.2.1 2) (r.2.2.1 3) (r.2.2.1 4) (r.2.2.1 5) (rn6 hi r.2.2.1 (r.1 4).2 rfl hN) (rn7 hi r.2.2.1 (r.1 4).2 rfl hN) (rn8 hi r.2.2.1 (r.1 4).2 rfl hN) (rn9 hi r.2.2.1 (r.1 4).2 rfl hN) (rn10 r.2.2.1 rfl hN), RB.of (r.2.2.2.1 0) (r.2.2.2.1 1) (r.2.2.2.1 2) (r.2.2.2.1 3) (r.2.2.2.1 4) (r.2.2.2.1 5) (r.2.2.2.1 6) (r.2.2.2.1 7) (r.2.2.2.1 8) (r.2.2.2.1 9) ?_ (r.2.2.2.1 11) (rb12 hi r.2.2.2.1 rfl rfl), r.2.2.2.2.chg rfl rfl rfl rfl rfl rfl⟩
  · intro d hd
    show Bd 99 (up2 S 1 c x 1 d)
    rw [up2_s]
    by_cases e : d = c
    · subst e; rw [pk_us]; exact hx
    · rw [pk_un e]; exact r.1 9 d hd
  · intro d hd h
    replace h : isCellB S (nI d) = true := h
    show up2 M 3 c (x - 10) 3 d = up2 S 1 c x 1 d - 10
    rw [up2_s, up2_s]
    by_cases e : d = c
    · subst e; rw [pk_us, pk_us]
    · rw [pk_un e, pk_un e]; exact r.2.2.2.1 10 d hd h
theorem RW.s21 (r : RW S L M) {x : Int32} (hx : Bd 1000 x) : RW (up2 S 0 21 x) L (up2 M 0 13 x) := by
  have hi : Hi S (up2 S 0 21 x) := fun o ho => up2_n (by omega)
  have hN : ∀ j, 256 ≤ j → j < 346 → up2 M 0 13 x 1 j = M 1 j := fun j _ _ => rfl
  refine ⟨XB.of (r.1 0) (r.1 1) (r.1 2) (r.1 3) (r.1 4) (r.1 5) ?_ (r.1 7) (r.1 8) (r.1 9) (r.1 10), XN.of (r.2.1 0) (r.2.1 1) (r.2.1 2) (r.2.1 3) (xn4 hi r.2.1 rfl (fun _ => rfl)) (xn5 hi r.2.1 rfl), RN.of (r.2.2.1 0) (r.2.2.1 1) (r.2.2.1 2) (r.2.2.1 3) (r.2.2.1 4) (r.2.2.1 5) (rn6 hi r.2.2.1 (r.1 4).2 rfl hN) (rn7 hi r.2.2.1 (r.1 4).2 rfl hN) (rn8 hi r.2.2.1 (r.1 4).2 rfl hN) (rn9 hi r.2.2.1 (r.1 4).2 rfl hN) (rn10 r.2.2.1 rfl hN), RB.of (r.2.2.2.1 0) (r.2.2.2.1 1) (r.2.2.2.1 2) (r.2.2.2.1 3) (r.2.2.2.1 4) (r.2.2.2.1 5) (r.2.2.2.1 6) ?_ (r.2.2.2.1 8) (r.2.2.2.1 9) (r.2.2.2.1 10) (r.2.2.2.1 11) (rb12 hi r.2.2.2.1 rfl rfl), r.2.2.2.2.chg rfl rfl rfl rfl rfl rfl⟩
  · exact hx
  · rfl
theorem RW.s22 (r : RW S L M) {x : Int32} (hx : Bd 1000 x) : RW (up2 S 0 22 x) L (up2 M 0 14 x) := by
  have hi : Hi S (up2 S 0 22 x) := fun o ho => up2_n (by omega)
  have hN : ∀ j, 256 ≤ j → j < 346 → up2 M 0 14 x 1 j = M 1 j := fun j _ _ => rfl
  refine ⟨XB.of (r.1 0) (r.1 1) (r.1 2) (r.1 3) (r.1 4) (r.1 5) (r.1 6) ?_ (r.1 8) (r.1 9) (r.1 10), XN.of (r.2.1 0) (r.2.1 1) (r.2.1 2) (r.2.1 3) (xn4 hi r.2.1 rfl (fun _ => rfl)) (xn5 hi r.2.1 rfl), RN.of (r.2.2.1 0) (r.2.2.1 1) (r.2.2.1 2) (r.2.2.1 3) (r.2.2.1 4) (r.2.2.1 5) (rn6 hi r.2.2.1 (r.1 4).2 rfl hN) (rn7 hi r.2.2.1 (r.1 4).2 rfl hN) (rn8 hi r.2.2.1 (r.1 4).2 rfl hN) (rn9 hi r.2.2.1 (r.1 4).2 rfl hN) (rn10 r.2.2.1 rfl hN), RB.of (r.2.2.2.1 0) (r.2.2.2.1 1) (r.2.2.2.1 2) (r.2.2.2.1 3) (r.2.2.2.1 4) (r.2.2.2.1 5) (r.2.2.2.1 6) (r.2.2.2.1 7) ?_ (r.2.2.2.1 9) (r.2.2.2.1 10) (r.2.2.2.1 11) (rb12 hi r.2.2.2.1 rfl rfl), r.2.2.2.2.chg rfl rfl rfl rfl rfl rfl⟩
  · exact hx
  · rfl
theorem RW.s23 (r : RW S L M) {x : Int32} (hx : Bd 1000 x) : RW (up2 S 0 23 x) L (up2 M 0 15 x) := by
  have hi : Hi S (up2 S 0 23 x) := fun o ho => up2_n (by omega)
  have hN : ∀ j, 256 ≤ j → j < 346 → up2 M 0 15 x 1 j = M 1 j := fun j _ _ => rfl
  refine ⟨XB.of (r.1 0) (r.1 1) (r.1 2) (r.1 3) (r.1 4) (r.1 5) (r.1 6) (r.1 7) ?_ (r.1 9) (r.1 10), XN.of (r.2.1 0) (r.2.1 1) (r.2.1 2) (r.2.1 3) (xn4 hi r.2.1 rfl (fun _ => rfl)) (xn5 hi r.2.1 rfl), RN.of (r.2.2.1 0) (r.2.2.1 1) (r.2.2.1 2) (r.2.2.1 3) (r.2.2.1 4) (r.2.2.1 5) (rn6 hi r.2.2.1 (r.1 4).2 rfl hN) (rn7 hi r.2.2.1 (r.1 4).2 rfl hN) (rn8 hi r.2.2.1 (r.1 4).2 rfl hN) (rn9 hi r.2.2.1 (r.1 4).2 rfl hN) (rn10 r.2.2.1 rfl hN), RB.of (r.2.2.2.1 0) (r.2.2.2.1 1) (r.2.2.2.1 2) (r.2.2.2.1 3) (r.2.2.2.1 4) (r.2.2.2.1 5) (r.2.2.2.1 6) (r.2.2.2.1 7) (r.2.2.2.1 8) ?_ (r.2.2.2.1 10) (r.2.2.2.1 11) (rb12 hi r.2.2.2.1 rfl rfl), r.2.2.2.2.chg rfl rfl rfl rfl rfl rfl⟩
  · exact hx
  · rfl
theorem RW.w7 (r : RW S L M) {k : Nat} {x : Int32} (hk : gN (S 0 15) ≤ k) : RW (up2 S 7 k x) L (up2 M 4 k x) := by
  have hi : Hi S (up2 S 7 k x) := fun o ho => up2_n (by omega)
  have hN : ∀ j, 256 ≤ j → j < 346 → up2 M 4 k x 1 j = M 1 j := fun j _ _ => rfl
  refine ⟨XB.of (r.1 0) (r.1 1) (r.1 2) (r.1 3) (r.1 4) (r.1 5) (r.1 6) (r.1 7) (r.1 8) (r.1 9) ?_, XN.of (r.2.1 0) (r.2.1 1) (r.2.1 2) (r.2.1 3) (xn4 hi r.2.1 rfl (fun _ => rfl)) (xn5 hi r.2.1 rfl), RN.of (r.2.2.1 0) (r.2.2.1 1) (r.2.2.1 2) (r.2.2.1 3) (r.2.2.1 4) (r.2.2.1 5) (rn6 hi r.2.2.1 (r.1 4).2 rfl hN) (rn7 hi r.2.2.1 (r.1 4).2 rfl hN) (rn8 hi r.2.2.1 (r.1 4).2 rfl hN) (rn9 hi r.2.2.1 (r.1 4).2 rfl hN) (rn10 r.2.2.1 rfl hN), RB.of (r.2.2.2.1 0) (r.2.2.2.1 1) (r.2.2.2.1 2) (r.2.2.2.1 3) (r.2.2.2.1 4) (r.2.2.2.1 5) (r.2.2.2.1 6) (r.2.2.2.1 7) (r.2.2.2.1 8) (r.2.2.2.1 9) (r.2.2.2.1 10) ?_ (rb12 hi r.2.2.2.1 rfl rfl), r.2.2.2.2.chg rfl rfl rfl rfl rfl rfl⟩
  · intro j hj
    replace hj : j < gN (S 0 15) := hj
    show Bd 99 (up2 S 7 k x 7 j) ∧ Bd 9 (S 8 j) ∧ (S 9 j = -1 ∨ (Bd 11 (S 9 j) ∧ gN (S 9 j) < gN (S 0 15)))
    rw [up2_s, pk_un (by omega)]; exact r.1 10 j hj
  · intro j hj
    replace hj : j < gN (S 0 15) := hj
    show up2 M 4 k x 4 j = up2 S 7 k x 7 j ∧ M 5 j = S 8 j ∧ M 6 j = S 9 j
    rw [up2_s, up2_s, pk_un (by omega), pk_un (by omega)]; exact r.2.2.2.1 11 j hj
theorem RW.w8 (r : RW S L M) {k : Nat} {x : Int32} (hk : gN (S 0 15) ≤ k) : RW (up2 S 8 k x) L (up2 M 5 k x) := by
  have hi : Hi S (up2 S 8 k x) := fun o ho => up2_n (by omega)
  have hN : ∀ j, 256 ≤ j → j < 346 → up2 M 5 k x 1 j = M 1 j := fun j _ _ => rfl
  refine ⟨XB.of (r.1 0) (r.1 1) (r.1 2) (r.1 3) (r.1 4) (r.1 5) (r.1 6) (r.1 7) (r.1 8) (r.1 9) ?_, XN.of (r.2.1 0) (r.2.1 1) (r.2.1 2) (r.2.1 3) (xn4 hi r.2.1 rfl (fun _ => rfl)) (xn5 hi r.2.1 rfl), RN.of (r.2.2.1 0) (r.2.2.1 1) (r.2.2.1 2) (r.2.2.1 3) (r.2.2.1 4) (r.2.2.1 5) (rn6 hi r.2.2.1 (r.1 4).2 rfl hN) (rn7 hi r.2.2.1 (r.1 4).2 rfl hN) (rn8 hi r.2.2.1 (r.1 4).2 rfl hN) (rn9 hi r.2.2.1 (r.1 4).2 rfl hN) (rn10 r.2.2.1 rfl hN), RB.of (r.2.2.2.1 0) (r.2.2.2.1 1) (r.2.2.2.1 2) (r.2.2.2.1 3) (r.2.2.2.1 4) (r.2.2.2.1 5) (r.2.2.2.1 6) (r.2.2.2.1 7) (r.2.2.2.1 8) (r.2.2.2.1 9) (r.2.2.2.1 10) ?_ (rb12 hi r.2.2.2.1 rfl rfl), r.2.2.2.2.chg rfl rfl rfl rfl rfl rfl⟩
  · intro j hj
    replace hj : j < gN (S 0 15) := hj
    show Bd 99 (S 7 j) ∧ Bd 9 (up2 S 8 k x 8 j) ∧ (S 9 j = -1 ∨ (Bd 11 (S 9 j) ∧ gN (S 9 j) < gN (S 0 15)))
    rw [up2_s, pk_un (by omega)]; exact r.1 10 j hj
  · intro j hj
    replace hj : j < gN (S 0 15) := hj
    show M 4 j = S 7 j ∧ up2 M 5 k x 5 j = up2 S 8 k x 8 j ∧ M 6 j = S 9 j
    rw [up2_s, up2_s, pk_un (by omega), pk_un (by omega)]; exact r.2.2.2.1 11 j hj
theorem RW.w9 (r : RW S L M) {k : Nat} {x : Int32} (hk : gN (S 0 15) ≤ k) : RW (up2 S 9 k x) L (up2 M 6 k x) := by
  have hi : Hi S (up2 S 9 k x) := fun o ho => up2_n (by omega)
  have hN : ∀ j, 256 ≤ j → j < 346 → up2 M 6 k x 1 j = M 1 j := fun j _ _ => rfl
  refine ⟨XB.of (r.1 0) (r.1 1) (r.1 2) (r.1 3) (r.1 4) (r.1 5) (r.1 6) (r.1 7) (r.1 8) (r.1 9) ?_, XN.of (r.2.1 0) (r.2.1 1) (r.2.1 2) (r.2.1 3) (xn4 hi r.2.1 rfl (fun _ => rfl)) (xn5 hi r.2.1 rfl), RN.of (r.2.2.1 0) (r.2.2.1 1) (r.2.2.1 2) (r.2.2.1 3) (r.2.2.1 4) (r.2.2.1 5) (rn6 hi r.2.2.1 (r.1 4).2 rfl hN) (rn7 hi r.2.2.1 (r.1 4).2 rfl hN) (rn8 hi r.2.2.1 (r.1 4).2 rfl hN) (rn9 hi r.2.2.1 (r.1 4).2 rfl hN) (rn10 r.2.2.1 rfl hN), RB.of (r.2.2.2.1 0) (r.2.2.2.1 1) (r.2.2.2.1 2) (r.2.2.2.1 3) (r.2.2.2.1 4) (r.2.2.2.1 5) (r.2.2.2.1 6) (r.2.2.2.1 7) (r.2.2.2.1 8) (r.2.2.2.1 9) (r.2.2.2.1 10) ?_ (rb12 hi r.2.2.2.1 rfl rfl), r.2.2.2.2.chg rfl rfl rfl rfl rfl rfl⟩
  · intro j hj
    replace hj : j < gN (S 0 15) := hj
    show Bd 99 (S 7 j) ∧ Bd 9 (S 8 j) ∧ (up2 S 9 k x 9 j = -1 ∨ (Bd 11 (up2 S 9 k x 9 j) ∧ gN (up2 S 9 k x 9 j) < gN (S 0 15)))
    rw [up2_s, pk_un (by omega)]; exact r.1 10 j hj
  · intro j hj
    replace hj : j < gN (S 0 15) := hj
    show M 4 j = S 7 j ∧ M 5 j = S 8 j ∧ up2 M 6 k x 6 j = up2 S 9 k x 9 j
    rw [up2_s, up2_s, pk_un (by omega), pk_un (by omega)]; exact r.2.2.2.1 11 j hj
end ST
