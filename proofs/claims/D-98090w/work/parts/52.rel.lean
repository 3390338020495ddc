set_option maxRecDepth 100000
/-! HOW THE MODEL STANDS TO THE WOOD. Clauses by number. -/
def gN (x : Int32) : Nat := x.toNatClampNeg
/-- a number of at most B -/
def Bd (B : Nat) (x : Int32) : Prop := x = nI (gN x) ∧ gN x ≤ B
theorem gN_nI {n : Nat} (h : n < 2 ^ 31) : gN (nI n) = n := nI_clamp h
theorem bd_nI {B n : Nat} (h : n ≤ B) (hB : B < 2 ^ 31) : Bd B (nI n) := by
  have e : gN (nI n) = n := gN_nI (by omega)
  exact ⟨by rw [e], by rw [e]; exact h⟩
theorem Bd.up {B C : Nat} {x : Int32} (h : Bd B x) (hc : B ≤ C) : Bd C x := ⟨h.1, Nat.le_trans h.2 hc⟩
theorem Bd.of {B : Nat} {x : Int32} (hB : B < 2 ^ 31) (h0 : 0 ≤ x) (h1 : x ≤ nI B) : Bd B x := by
  obtain ⟨j, hj, rfl⟩ := nI_of (x := x) (fun h => absurd h0 (by rw [Int32.not_le]; exact h))
  exact bd_nI ((nI_leI hj hB).mp h1) hB
theorem Bd.ge {B : Nat} {x : Int32} (h : Bd B x) (hB : B < 2 ^ 31) : 0 ≤ x := by
  rw [h.1]
  exact nI_pos' (by have := h.2; omega)
theorem Bd.le {B : Nat} {x : Int32} (h : Bd B x) (hB : B < 2 ^ 31) : x ≤ nI B := by
  rw [h.1]
  exact nI_le h.2 hB
theorem Bd.n1 {B : Nat} {x : Int32} (h : Bd B x) (hB : B < 2 ^ 31) : ¬ x = -1 := by
  intro e
  have := h.ge hB
  rw [e] at this
  exact absurd this (by decide)
theorem Bd.leI {B C : Nat} {x y : Int32} (h : Bd B x) (h2 : Bd C y) (hB : B < 2 ^ 31) (hC : C < 2 ^ 31) : x ≤ y ↔ gN x ≤ gN y := by
  have a := h.2
  have b := h2.2
  rw [h.1, h2.1, nI_leI (by omega) (by omega), gN_nI (by omega), gN_nI (by omega)]
theorem Bd.ltI {B C : Nat} {x y : Int32} (h : Bd B x) (h2 : Bd C y) (hB : B < 2 ^ 31) (hC : C < 2 ^ 31) : x < y ↔ gN x < gN y := by
  have a := h.2
  have b := h2.2
  rw [h.1, h2.1, nI_ltI (by omega) (by omega), gN_nI (by omega), gN_nI (by omega)]
theorem Bd.eqI {B C : Nat} {x y : Int32} (h : Bd B x) (h2 : Bd C y) (hB : B < 2 ^ 31) (hC : C < 2 ^ 31) : x = y ↔ gN x = gN y := by
  have a := h.2
  have b := h2.2
  rw [h.1, h2.1, nI_eq (by omega) (by omega), gN_nI (by omega), gN_nI (by omega)]
/-- what holds of a wood: its shape, its kinds of words -/
def XBc (S : Nat → Nat → Int32) : Nat → Prop
  | 0 => Bd 8 (S 0 12) ∧ 3 ≤ gN (S 0 12)
  | 1 => Bd 8 (S 0 13) ∧ 3 ≤ gN (S 0 13)
  | 2 => Bd 9999 (S 0 14)
  | 3 => Bd 12 (S 0 15)
  | 4 => Bd 6 (S 0 16)
  | 5 => Bd 1 (S 0 19)
  | 6 => Bd 1000 (S 0 21)
  | 7 => Bd 1000 (S 0 22)
  | 8 => Bd 1000 (S 0 23)
  | 9 => ∀ c, c < 64 → Bd 99 (S 1 c)
  | 10 => ∀ k, k < gN (S 0 15) → Bd 99 (S 7 k) ∧ Bd 9 (S 8 k) ∧ (S 9 k = -1 ∨ (Bd 11 (S 9 k) ∧ gN (S 9 k) < gN (S 0 15)))
  | _ => True
def XB (S : Nat → Nat → Int32) : Prop := ∀ i, XBc S i
/-- what holds of the part that acts move, of T, in a wood of the shape of S -/
def XNc (T S : Nat → Nat → Int32) : Nat → Prop
  | 0 => Bd 100 (T 0 17)
  | 1 => Bd 99 (T 0 20)
  | 2 => ∀ c, c < 64 → T 2 c = -1 ∨ (Bd 11 (T 2 c) ∧ gN (T 2 c) < gN (S 0 15) ∧ isCellB S (nI c) = true)
  | 3 => ∀ c, c < 64 → T 2 c ≠ -1 → Bd 999 (T 3 c)
  | 4 => ∀ p, p < gN (S 0 16) → Bd 63 (T (113 + 2 * p) 1) ∧ isCellB S (T (113 + 2 * p) 1) = true
  | 5 => ∀ p, p < gN (S 0 16) → Bd 99 (T (113 + 2 * p) 2)
  | _ => True
def XN (T S : Nat → Nat → Int32) : Prop := ∀ i, XNc T S i
/-- a row N of the model's numbers against the part that acts move -/
def RNc (T : Nat → Nat → Int32) (m : Nat) (N : Nat → Int32) : Nat → Prop
  | 0 => N 347 = T 0 17
  | 1 => N 346 = T 0 20
  | 2 => ∀ c, c < 64 → N c = T 2 c + 1
  | 3 => ∀ c, c < 64 → T 2 c ≠ -1 → N (64 + c) = T 3 c
  | 4 => ∀ c, c < 64 → T 2 c ≠ -1 → N (128 + c) = T 4 c
  | 5 => ∀ c, c < 64 → T 2 c ≠ -1 → N (192 + c) = T 5 c
  | 6 => ∀ p, p < m → N (256 + p) = T (113 + 2 * p) 1
  | 7 => ∀ p, p < m → N (262 + p) = T (113 + 2 * p) 2
  | 8 => ∀ p, p < m → N (268 + p) = T (113 + 2 * p) 3
  | 9 => ∀ p w, p < m → w < 12 → N (274 + 12 * p + w) = T (113 + 2 * p + 1) w
  | 10 => ∀ p, m ≤ p → p < 6 → N (262 + p) = 0 ∧ N (268 + p) = 0 ∧ ∀ w, w < 12 → N (274 + 12 * p + w) = 0
  | _ => True
def RN (T : Nat → Nat → Int32) (m : Nat) (N : Nat → Int32) : Prop := ∀ i, RNc T m N i
/-- the rest of a wood against the model -/
def RBc (S : Nat → Nat → Int32) (M : SS) : Nat → Prop
  | 0 => M 0 5 = S 0 12
  | 1 => M 0 6 = S 0 13
  | 2 => M 0 17 = S 0 14
  | 3 => M 0 8 = S 0 15
  | 4 => M 0 12 = S 0 16
  | 5 => M 0 4 = S 0 18
  | 6 => M 0 16 = S 0 19
  | 7 => M 0 13 = S 0 21
  | 8 => M 0 14 = S 0 22
  | 9 => M 0 15 = S 0 23
  | 10 => ∀ c, c < 64 → isCellB S (nI c) = true → M 3 c = S 1 c - 10
  | 11 => ∀ k, k < gN (S 0 15) → M 4 k = S 7 k ∧ M 5 k = S 8 k ∧ M 6 k = S 9 k
  | 12 => ∀ i j, i < gN (S 0 17) → j < 4 → M 7 (4 * i + j) = S (11 + i) j
  | _ => True
def RB (S : Nat → Nat → Int32) (M : SS) : Prop := ∀ i, RBc S M i
/-- codes of numbers: c is well made, at most n deep -/
def Ar9 : Nat → Code9 → Prop
  | 0, _ => False
  | n + 1, c => (∃ v, c = [(0, v)]) ∨ (∃ k : Nat, k < 9 ∧ c = [(1, nI k)]) ∨ ∃ o c1 c2, (o = 2 ∨ o = 3 ∨ o = 4 ∨ o = 5) ∧ (o = 5 → ∃ v, c2 = [(0, v)] ∧ ¬ v = 0) ∧ Ar9 n c1 ∧ Ar9 n c2 ∧ c = c1 ++ c2 ++ [(o, 0)]
/-- codes of conditions -/
def Cd9 : Nat → Code9 → Prop
  | 0, _ => False
  | n + 1, c => (∃ c1, Cd9 n c1 ∧ c = c1 ++ [(9, 0)]) ∨ (∃ o c1 c2, (o = 6 ∨ o = 7 ∨ o = 8) ∧ Ar9 n c1 ∧ Ar9 n c2 ∧ c = c1 ++ c2 ++ [(o, 0)]) ∨ ∃ o c1 c2, (o = 10 ∨ o = 11) ∧ Cd9 n c1 ∧ Cd9 n c2 ∧ c = c1 ++ c2 ++ [(o, 0)]
/-- the code c stands in the model's rows of codes from a on -/
def CodeAt (M : SS) (a : Nat) (c : Code9) : Prop := ∀ j o v, c[j]? = some (o, v) → M 13 (a + j) = nI o ∧ M 14 (a + j) = v
def LineAt (M : SS) (i : Nat) (q : Line9) : Prop := ∃ a b c : Nat, M 11 i = nI a ∧ M 10 i = nI b ∧ M 12 i = nI c ∧ b = a + q.1.length ∧ c ≤ 400 ∧ CodeAt M a q.1 ∧ Ar9 DEP q.1 ∧ match q.2 with
  | none => c = b
  | some w => c = b + w.length ∧ CodeAt M b w ∧ Cd9 DEP w
def LawR (L : List Line9) (M : SS) : Prop := M 0 26 = nI L.length ∧ L.length ≤ 16 ∧ ∀ i q, L[i]? = some q → LineAt M i q
/-- the wood S with the law L is what the model M is -/
def RW (S : Nat → Nat → Int32) (L : List Line9) (M : SS) : Prop := XB S ∧ XN S S ∧ RN S (gN (S 0 16)) (M 1) ∧ RB S M ∧ LawR L M
/-! a cap -/
theorem cap_eq {S : Nat → Nat → Int32} {L : List Line9} {M : SS} (r : RW S L M) {c : Nat} (hc : c < 64) : capB S (nI c) = !(decide (S 2 c = -1)) := by
  have e : (nI c).toNatClampNeg = c := nI_clamp (by omega)
  unfold capB
  rw [e]
  rcases r.2.1 2 c hc with h | ⟨-, -, h⟩
  · rw [h]; simp
  · rw [h]; simp
theorem cap_M {S : Nat → Nat → Int32} {L : List Line9} {M : SS} (r : RW S L M) {c : Nat} (hc : c < 64) : capB S (nI c) = decide (0 < M 1 c) := by
  rw [cap_eq r hc, r.2.2.1 2 c hc]
  rcases r.2.1 2 c hc with h | ⟨h, -, -⟩
  · rw [h]; decide
  · have h1 := h.n1 (by decide)
    have h2 : 0 < S 2 c + 1 := by
      rw [h.1, nI_1]
      exact nI_lt (a := 0) (by omega) (by have := h.2; omega)
    simp [h1, h2]
theorem cap_f {S : Nat → Nat → Int32} {L : List Line9} {M : SS} (r : RW S L M) {c : Nat} (hc : c < 64) : capB S (nI c) = false ↔ M 1 c = 0 := by
  rw [cap_eq r hc, r.2.2.1 2 c hc]
  rcases r.2.1 2 c hc with h | ⟨h, -, -⟩
  · rw [h]; decide
  · have h1 := h.n1 (by decide)
    have h2 : ¬ S 2 c + 1 = 0 := by
      rw [h.1, nI_1]
      exact nI_ne0 (by omega) (by have := h.2; omega)
    simp [h1, h2]
theorem cap_t {S : Nat → Nat → Int32} {L : List Line9} {M : SS} (r : RW S L M) {c : Nat} (hc : c < 64) : capB S (nI c) = true ↔ 0 < M 1 c := by
  rw [cap_M r hc]; simp
theorem cap_ne {S : Nat → Nat → Int32} {L : List Line9} {M : SS} (r : RW S L M) {c : Nat} (hc : c < 64) (h : capB S (nI c) = true) : S 2 c ≠ -1 := by
  rw [cap_eq r hc] at h
  simpa using h
/-- what a cap's word is -/
theorem cap_word {S : Nat → Nat → Int32} {L : List Line9} {M : SS} (r : RW S L M) {c : Nat} (hc : c < 64) (h : capB S (nI c) = true) : Bd 11 (S 2 c) ∧ gN (S 2 c) < gN (S 0 15) := by
  rcases r.2.1 2 c hc with h1 | ⟨h1, h2, -⟩
  · exact absurd h1 (cap_ne r hc h)
  · exact ⟨h1, h2⟩
