set_option maxRecDepth 100000
section ST
variable {S M : SS} {L : List Line9}
theorem RW.cnt (r : RW S L M) {k : Nat} {n : Int32} (hk : gN (S 0 15) = k) (hn : gN n = k + 1) (hn12 : Bd 12 n) (hx : Bd 99 (S 7 k) ∧ Bd 9 (S 8 k) ∧ (S 9 k = -1 ∨ (Bd 11 (S 9 k) ∧ gN (S 9 k) < k + 1))) (hm : M 4 k = S 7 k ∧ M 5 k = S 8 k ∧ M 6 k = S 9 k) : RW (up2 S 0 15 n) L (up2 M 0 8 n) := by
  have hi : Hi S (up2 S 0 15 n) := fun o ho => up2_n (by omega)
  have hN : ∀ j, 256 ≤ j → j < 346 → up2 M 0 8 n 1 j = M 1 j := fun j _ _ => rfl
  refine ⟨XB.of (show Bd 8 (S 0 12) ∧ 3 ≤ gN (S 0 12) from r.1 0) (show Bd 8 (S 0 13) ∧ 3 ≤ gN (S 0 13) from r.1 1) (show Bd 9999 (S 0 14) from r.1 2) ?_ (show Bd 6 (S 0 16) from r.1 4) (show Bd 1 (S 0 19) from r.1 5) (show Bd 1000 (S 0 21) from r.1 6) (show Bd 1000 (S 0 22) from r.1 7) (show Bd 1000 (S 0 23) from r.1 8) (show ∀ c, c < 64 → Bd 99 (S 1 c) from r.1 9) ?_, XN.of (show Bd 100 (S 0 17) from r.2.1 0) (show Bd 99 (S 0 20) from r.2.1 1) ?_ (show ∀ c, c < 64 → S 2 c ≠ -1 → Bd 999 (S 3 c) from r.2.1 3) (xn4 hi r.2.1 rfl (fun _ => rfl)) (xn5 hi r.2.1 rfl), RN.of (show M 1 347 = S 0 17 from r.2.2.1 0) (show M 1 346 = S 0 20 from r.2.2.1 1) (show ∀ c, c < 64 → M 1 c = S 2 c + 1 from r.2.2.1 2) (show ∀ c, c < 64 → S 2 c ≠ -1 → M 1 (64 + c) = S 3 c from r.2.2.1 3) (show ∀ c, c < 64 → S 2 c ≠ -1 → M 1 (128 + c) = S 4 c from r.2.2.1 4) (show ∀ c, c < 64 → S 2 c ≠ -1 → M 1 (192 + c) = S 5 c from r.2.2.1 5) (rn6 hi r.2.2.1 (r.1 4).2 rfl hN) (rn7 hi r.2.2.1 (r.1 4).2 rfl hN) (rn8 hi r.2.2.1 (r.1 4).2 rfl hN) (rn9 hi r.2.2.1 (r.1 4).2 rfl hN) (rn10 r.2.2.1 rfl hN), RB.of (show M 0 5 = S 0 12 from r.2.2.2.1 0) (show M 0 6 = S 0 13 from r.2.2.2.1 1) (show M 0 17 = S 0 14 from r.2.2.2.1 2) ?_ (show M 0 12 = S 0 16 from r.2.2.2.1 4) (show M 0 4 = S 0 18 from r.2.2.2.1 5) (show M 0 16 = S 0 19 from r.2.2.2.1 6) (show M 0 13 = S 0 21 from r.2.2.2.1 7) (show M 0 14 = S 0 22 from r.2.2.2.1 8) (show M 0 15 = S 0 23 from r.2.2.2.1 9) (show ∀ c, c < 64 → isCellB S (nI c) = true → M 3 c = S 1 c - 10 from r.2.2.2.1 10) ?_ (rb12 hi r.2.2.2.1 rfl rfl), r.2.2.2.2.chg rfl rfl rfl rfl rfl rfl⟩
  · exact hn12
  · intro j hj
    replace hj : j < gN n := hj
    show Bd 99 (S 7 j) ∧ Bd 9 (S 8 j) ∧ (S 9 j = -1 ∨ (Bd 11 (S 9 j) ∧ gN (S 9 j) < gN n))
    rw [hn]
    rw [hn] at hj
    by_cases e : j = k
    · rw [e]; exact hx
    · obtain ⟨a1, a2, a3⟩ := r.1 10 j (by omega)
      refine ⟨a1, a2, ?_⟩
      rcases a3 with a3 | ⟨a3, a4⟩
      · exact Or.inl a3
      · exact Or.inr ⟨a3, by omega⟩
  · intro c hc
    show S 2 c = -1 ∨ (Bd 11 (S 2 c) ∧ gN (S 2 c) < gN n ∧ isCellB S (nI c) = true)
    rcases r.2.1 2 c hc with a | ⟨a, b, d⟩
    · exact Or.inl a
    · exact Or.inr ⟨a, by rw [hn]; omega, d⟩
  · rfl
  · intro j hj
    replace hj : j < gN n := hj
    show M 4 j = S 7 j ∧ M 5 j = S 8 j ∧ M 6 j = S 9 j
    rw [hn] at hj
    by_cases e : j = k
    · rw [e]; exact hm
    · exact r.2.2.2.1 11 j (by omega)
theorem RW.word (r : RW S L M) {k : Nat} {x y u n : Int32} (hn : n = nI (k + 1)) (hk : S 0 15 = nI k) (hk12 : k < 12) (hx : Bd 99 x) (hy : Bd 9 y) (hu : u = -1 ∨ (Bd 11 u ∧ gN u < k + 1)) : RW (up2 (up2 (up2 (up2 S 7 k x) 8 k y) 9 k u) 0 15 n) L (up2 (up2 (up2 (up2 M 4 k x) 5 k y) 6 k u) 0 8 n) := by
  have hg : gN (S 0 15) = k := by rw [hk]; exact gN_nI (by omega)
  have h3 := ((r.w7 (x := x) (Nat.le_of_eq hg)).w8 (x := y) (k := k) (Nat.le_of_eq hg)).w9 (x := u) (k := k) (Nat.le_of_eq hg)
  refine h3.cnt (k := k) hg (by rw [hn]; exact gN_nI (by omega)) (by rw [hn]; exact bd_nI (by omega) (by decide)) ?_ ?_
  · rw [up2_n (show (7 : Nat) ≠ 9 by decide), up2_n (show (7 : Nat) ≠ 8 by decide), up2_s, pk_us, up2_n (show (8 : Nat) ≠ 9 by decide), up2_s, pk_us, up2_s, pk_us]
    exact ⟨hx, hy, hu⟩
  · rw [up2_n (show (7 : Nat) ≠ 9 by decide), up2_n (show (7 : Nat) ≠ 8 by decide), up2_s, pk_us, up2_n (show (8 : Nat) ≠ 9 by decide), up2_s, pk_us, up2_s, pk_us, up2_n (show (4 : Nat) ≠ 6 by decide), up2_n (show (4 : Nat) ≠ 5 by decide), up2_s, pk_us, up2_n (show (5 : Nat) ≠ 6 by decide), up2_s, pk_us, up2_s, pk_us]
    exact ⟨rfl, rfl, rfl⟩
end ST
