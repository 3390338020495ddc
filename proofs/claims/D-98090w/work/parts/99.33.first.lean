set_option maxRecDepth 100000
/-! CLASS AND MODEL WHEN THEY ARE MADE -/
section FR
variable {S : Nat → Nat → Int32} {w y : Int32}
theorem RN.b0 {N : Nat → Int32} (n1 : ∀ k, k < 348 → N k = 0) : RN (begF S w y) (gN (begF S w y 0 16)) N := by
  rw [be_16, gN_0]
  generalize hB : begF S w y = B
  have h17 : B 0 17 = 0 := by rw [← hB]; exact be_17
  have h20 : B 0 20 = 0 := by rw [← hB]; exact be_20
  have h2 : ∀ k, k < 64 → B 2 k = -1 := fun k hk => by rw [← hB]; exact be_2 hk
  refine RN.of (show N 347 = B 0 17 from by rw [n1 _ (by decide), h17]) (show N 346 = B 0 20 from by rw [n1 _ (by decide), h20]) (show ∀ c, c < 64 → N c = B 2 c + 1 from fun c hc => by rw [n1 c (by omega), h2 c hc]; decide) (show ∀ c, c < 64 → B 2 c ≠ -1 → N (64 + c) = B 3 c from fun c hc h9 => absurd (h2 c hc) h9) (show ∀ c, c < 64 → B 2 c ≠ -1 → N (128 + c) = B 4 c from fun c hc h9 => absurd (h2 c hc) h9) (show ∀ c, c < 64 → B 2 c ≠ -1 → N (192 + c) = B 5 c from fun c hc h9 => absurd (h2 c hc) h9) (show ∀ p, p < 0 → N (256 + p) = B (113 + 2 * p) 1 from fun p hp => absurd hp (by omega)) (show ∀ p, p < 0 → N (262 + p) = B (113 + 2 * p) 2 from fun p hp => absurd hp (by omega)) (show ∀ p, p < 0 → N (268 + p) = B (113 + 2 * p) 3 from fun p hp => absurd hp (by omega)) (show ∀ p w, p < 0 → w < 12 → N (274 + 12 * p + w) = B (113 + 2 * p + 1) w from fun p w hp => absurd hp (by omega)) (show ∀ p, 0 ≤ p → p < 6 → N (262 + p) = 0 ∧ N (268 + p) = 0 ∧ ∀ w, w < 12 → N (274 + 12 * p + w) = 0 from fun p _ hp => ⟨n1 _ (by omega), n1 _ (by omega), fun w hw => n1 _ (by omega)⟩)
theorem RB.b0 {N : SS} (m5 : N 0 5 = w) (m6 : N 0 6 = y) (m17 : N 0 17 = 0) (m8 : N 0 8 = 0) (m12 : N 0 12 = 0) (m4 : N 0 4 = S 0 18) (m16 : N 0 16 = 0) (m13 : N 0 13 = 0) (m14 : N 0 14 = 0) (m15 : N 0 15 = 0) (n3 : ∀ k, k < 64 → N 3 k = 0) : RB (begF S w y) N := by
  have h15 : gN (begF S w y 0 15) = 0 := by rw [be_15, gN_0]
  have h17 : gN (begF S w y 0 17) = 0 := by rw [be_17, gN_0]
  have b1 : ∀ k, k < 64 → begF S w y 1 k = 10 := fun k hk => be_1 hk
  have b12 := be_12 (S := S) (w := w) (y := y)
  have b13 := be_13 (S := S) (w := w) (y := y)
  have b14 := be_14 (S := S) (w := w) (y := y)
  have b15 := be_15 (S := S) (w := w) (y := y)
  have b16 := be_16 (S := S) (w := w) (y := y)
  have b18 := be_18 (S := S) (w := w) (y := y)
  have b19 := be_19 (S := S) (w := w) (y := y)
  have b21 := be_21 (S := S) (w := w) (y := y)
  have b22 := be_22 (S := S) (w := w) (y := y)
  have b23 := be_23 (S := S) (w := w) (y := y)
  generalize begF S w y = B at *
  refine RB.of (show N 0 5 = B 0 12 from by rw [m5, b12]) (show N 0 6 = B 0 13 from by rw [m6, b13]) (show N 0 17 = B 0 14 from by rw [m17, b14]) (show N 0 8 = B 0 15 from by rw [m8, b15]) (show N 0 12 = B 0 16 from by rw [m12, b16]) (show N 0 4 = B 0 18 from by rw [m4, b18]) (show N 0 16 = B 0 19 from by rw [m16, b19]) (show N 0 13 = B 0 21 from by rw [m13, b21]) (show N 0 14 = B 0 22 from by rw [m14, b22]) (show N 0 15 = B 0 23 from by rw [m15, b23]) (show ∀ c, c < 64 → isCellB B (nI c) = true → N 3 c = B 1 c - 10 from fun c hc _ => by rw [n3 c hc, b1 c hc]; decide) (show ∀ k, k < gN (B 0 15) → N 4 k = B 7 k ∧ N 5 k = B 8 k ∧ N 6 k = B 9 k from fun k hk => by rw [h15] at hk; exact absurd hk (by omega)) (show ∀ i j, i < gN (B 0 17) → j < 4 → N 7 (4 * i + j) = B (11 + i) j from fun i j hi => by rw [h17] at hi; exact absurd hi (by omega))
end FR
theorem rel0 {x : Nat} : RelX (W0 x) mod0 := by
  refine ⟨?_, RelU.z rfl rfl, ⟨0, by omega, rfl, rfl, fun k hk => absurd hk (by omega)⟩, ⟨false, rfl, rfl, fun e => by cases e⟩, rfl, rfl, rfl⟩
  show RW (begF zS 6 6) [] mod0
  exact ⟨XB.begin (by decide) (by decide), XN.begin, RN.b0 (fun _ _ => rfl), RB.b0 rfl rfl rfl rfl rfl rfl rfl rfl rfl rfl (fun _ _ => rfl), rfl, by decide, fun i q hq => by simp at hq⟩
