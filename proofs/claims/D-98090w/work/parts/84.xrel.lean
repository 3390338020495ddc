set_option maxRecDepth 100000
/-! THE RELATION: what of the model it sees; the whole relation of class and model -/
theorem XB.of {S : Nat → Nat → Int32} (h0 : XBc S 0) (h1 : XBc S 1) (h2 : XBc S 2) (h3 : XBc S 3) (h4 : XBc S 4) (h5 : XBc S 5) (h6 : XBc S 6) (h7 : XBc S 7) (h8 : XBc S 8) (h9 : XBc S 9) (h10 : XBc S 10) : XB S := fun i => match i with
  | 0 => h0
  | 1 => h1
  | 2 => h2
  | 3 => h3
  | 4 => h4
  | 5 => h5
  | 6 => h6
  | 7 => h7
  | 8 => h8
  | 9 => h9
  | 10 => h10
  | _ + 11 => trivial
theorem XN.of {T S : Nat → Nat → Int32} (h0 : XNc T S 0) (h1 : XNc T S 1) (h2 : XNc T S 2) (h3 : XNc T S 3) (h4 : XNc T S 4) (h5 : XNc T S 5) : XN T S := fun i => match i with
  | 0 => h0
  | 1 => h1
  | 2 => h2
  | 3 => h3
  | 4 => h4
  | 5 => h5
  | _ + 6 => trivial
theorem RN.of {T : Nat → Nat → Int32} {m : Nat} {N : Nat → Int32} (h0 : RNc T m N 0) (h1 : RNc T m N 1) (h2 : RNc T m N 2) (h3 : RNc T m N 3) (h4 : RNc T m N 4) (h5 : RNc T m N 5) (h6 : RNc T m N 6) (h7 : RNc T m N 7) (h8 : RNc T m N 8) (h9 : RNc T m N 9) (h10 : RNc T m N 10) : RN T m N := fun i => match i with
  | 0 => h0
  | 1 => h1
  | 2 => h2
  | 3 => h3
  | 4 => h4
  | 5 => h5
  | 6 => h6
  | 7 => h7
  | 8 => h8
  | 9 => h9
  | 10 => h10
  | _ + 11 => trivial
theorem RB.of {S : Nat → Nat → Int32} {M : SS} (h0 : RBc S M 0) (h1 : RBc S M 1) (h2 : RBc S M 2) (h3 : RBc S M 3) (h4 : RBc S M 4) (h5 : RBc S M 5) (h6 : RBc S M 6) (h7 : RBc S M 7) (h8 : RBc S M 8) (h9 : RBc S M 9) (h10 : RBc S M 10) (h11 : RBc S M 11) (h12 : RBc S M 12) : RB S M := fun i => match i with
  | 0 => h0
  | 1 => h1
  | 2 => h2
  | 3 => h3
  | 4 => h4
  | 5 => h5
  | 6 => h6
  | 7 => h7
  | 8 => h8
  | 9 => h9
  | 10 => h10
  | 11 => h11
  | 12 => h12
  | _ + 13 => trivial
/-- the model's places that an image keeps -/
def vpos (o k : Nat) : Prop := (o = 0 ∧ (k = 4 ∨ k = 5 ∨ k = 6 ∨ k = 8 ∨ k = 12 ∨ k = 13 ∨ k = 14 ∨ k = 15 ∨ k = 16 ∨ k = 17 ∨ k = 26)) ∨ (o = 1 ∧ k < 348) ∨ (o = 3 ∧ k < 64) ∨ ((o = 4 ∨ o = 5 ∨ o = 6) ∧ k < 12) ∨ (o = 7 ∧ k < 400) ∨ ((o = 10 ∨ o = 11 ∨ o = 12) ∧ k < 16) ∨ ((o = 13 ∨ o = 14) ∧ k < 400)
theorem RN.congr {T : Nat → Nat → Int32} {m : Nat} {N N' : Nat → Int32} (hm : m ≤ 6) (e : ∀ k, k < 348 → N' k = N k) (r : RN T m N) : RN T m N' := RN.of
  ((e 347 (by omega)).trans (r 0))
  ((e 346 (by omega)).trans (r 1))
  (fun c hc => (e c (by omega)).trans (r 2 c hc))
  (fun c hc h => (e (64 + c) (by omega)).trans (r 3 c hc h))
  (fun c hc h => (e (128 + c) (by omega)).trans (r 4 c hc h))
  (fun c hc h => (e (192 + c) (by omega)).trans (r 5 c hc h))
  (fun p hp => (e (256 + p) (by omega)).trans (r 6 p hp))
  (fun p hp => (e (262 + p) (by omega)).trans (r 7 p hp))
  (fun p hp => (e (268 + p) (by omega)).trans (r 8 p hp))
  (fun p w hp hw => (e (274 + 12 * p + w) (by omega)).trans (r 9 p w hp hw))
  (fun p h1 h2 => ⟨(e (262 + p) (by omega)).trans (r 10 p h1 h2).1, (e (268 + p) (by omega)).trans (r 10 p h1 h2).2.1, fun w hw => (e (274 + 12 * p + w) (by omega)).trans ((r 10 p h1 h2).2.2 w hw)⟩)
theorem CodeAt.congr {M M' : SS} {a : Nat} {c : Code9} (h : CodeAt M a c) (hl : a + c.length ≤ 400) (e : ∀ o k, vpos o k → M' o k = M o k) : CodeAt M' a c := by
  intro j o v hj
  have hlt : j < c.length := by
    apply Decidable.byContradiction
    intro q
    rw [List.getElem?_eq_none (by omega)] at hj
    cases hj
  obtain ⟨h1, h2⟩ := h j o v hj
  exact ⟨(e 13 (a + j) (by unfold vpos; omega)).trans h1, (e 14 (a + j) (by unfold vpos; omega)).trans h2⟩
theorem LineAt.congr {M M' : SS} {i : Nat} {q : Line9} (hi : i < 16) (h : LineAt M i q) (e : ∀ o k, vpos o k → M' o k = M o k) : LineAt M' i q := by
  obtain ⟨a, b, c, h1, h2, h3, h4, h5, h6, h7, h8⟩ := h
  have hbc : b ≤ c := by
    cases hq : q.2 with
    | none => rw [hq] at h8; omega
    | some w => rw [hq] at h8; omega
  refine ⟨a, b, c, (e 11 i (by unfold vpos; omega)).trans h1, (e 10 i (by unfold vpos; omega)).trans h2, (e 12 i (by unfold vpos; omega)).trans h3, h4, h5, h6.congr (by omega) e, h7, ?_⟩
  cases hq : q.2 with
  | none => rw [hq] at h8; exact h8
  | some w =>
    rw [hq] at h8
    exact ⟨h8.1, h8.2.1.congr (by omega) e, h8.2.2⟩
theorem LawR.congr {L : List Line9} {M M' : SS} (h : LawR L M) (e : ∀ o k, vpos o k → M' o k = M o k) : LawR L M' := by
  refine ⟨(e 0 26 (by unfold vpos; omega)).trans h.1, h.2.1, fun i q hq => ?_⟩
  have hlt : i < L.length := by
    apply Decidable.byContradiction
    intro k
    rw [List.getElem?_eq_none (by omega)] at hq
    cases hq
  have := h.2.1
  exact (h.2.2 i q hq).congr (by omega) e
theorem RB.congr {S : Nat → Nat → Int32} {M M' : SS} (hw : gN (S 0 15) ≤ 12) (hl : gN (S 0 17) ≤ 100) (e : ∀ o k, vpos o k → M' o k = M o k) (r : RB S M) : RB S M' := RB.of
  ((e 0 5 (by unfold vpos; omega)).trans (r 0))
  ((e 0 6 (by unfold vpos; omega)).trans (r 1))
  ((e 0 17 (by unfold vpos; omega)).trans (r 2))
  ((e 0 8 (by unfold vpos; omega)).trans (r 3))
  ((e 0 12 (by unfold vpos; omega)).trans (r 4))
  ((e 0 4 (by unfold vpos; omega)).trans (r 5))
  ((e 0 16 (by unfold vpos; omega)).trans (r 6))
  ((e 0 13 (by unfold vpos; omega)).trans (r 7))
  ((e 0 14 (by unfold vpos; omega)).trans (r 8))
  ((e 0 15 (by unfold vpos; omega)).trans (r 9))
  (fun c hc h => (e 3 c (by unfold vpos; omega)).trans (r 10 c hc h))
  (fun k hk => ⟨(e 4 k (by unfold vpos; omega)).trans (r 11 k hk).1, (e 5 k (by unfold vpos; omega)).trans (r 11 k hk).2.1, (e 6 k (by unfold vpos; omega)).trans (r 11 k hk).2.2⟩)
  (fun i j hi hj => (e 7 (4 * i + j) (by unfold vpos; omega)).trans (r 12 i j hi hj))
theorem RW.congr {S : Nat → Nat → Int32} {L : List Line9} {M M' : SS} (r : RW S L M) (e : ∀ o k, vpos o k → M' o k = M o k) : RW S L M' :=
  ⟨r.1, r.2.1, r.2.2.1.congr (r.1 4).2 (fun k hk => e 1 k (by unfold vpos; omega)), r.2.2.2.1.congr (r.1 3).2 (r.2.1 0).2 e, r.2.2.2.2.congr e⟩
theorem RW.up {S : Nat → Nat → Int32} {L : List Line9} {M : SS} {o k : Nat} {x : Int32} (r : RW S L M) (h : ¬ vpos o k) : RW S L (up2 M o k x) := r.congr (fun o' k' hv => by
  rw [up2_ap, if_neg]
  intro q
  rw [q.1, q.2] at hv
  exact h hv)
theorem RW.chg {S : Nat → Nat → Int32} {L : List Line9} {M M' : SS} {os : List Nat} (r : RW S L M) (h : Chg os M M') (ho : ∀ o k, vpos o k → mem1 os o = false) : RW S L M' := r.congr (fun o k hv => by rw [h o (ho o k hv)])
theorem vp_n {o k : Nat} (h : vpos o k) : mem1 [16, 17, 18, 19, 20, 21, 22, 2, 8, 9, 15] o = false := by
  have h9 : o = 0 ∨ o = 1 ∨ o = 3 ∨ o = 4 ∨ o = 5 ∨ o = 6 ∨ o = 7 ∨ o = 10 ∨ o = 11 ∨ o = 12 ∨ o = 13 ∨ o = 14 := by unfold vpos at h; omega
  rcases h9 with rfl | rfl | rfl | rfl | rfl | rfl | rfl | rfl | rfl | rfl | rfl | rfl <;> rfl
theorem RW.chg' {S : Nat → Nat → Int32} {L : List Line9} {M M' : SS} {os : List Nat} (r : RW S L M) (h : Chg os M M') (ho : os.all (mem1 [16, 17, 18, 19, 20, 21, 22, 2, 8, 9, 15]) = true) : RW S L M' := r.chg h (fun o k hv => mem1_sub ho (vp_n hv))
/-! images -/
def fJ (k : Nat) : Nat := match k with
  | 4 => 848
  | 5 => 849
  | 6 => 850
  | 8 => 851
  | 12 => 852
  | 13 => 853
  | 14 => 854
  | 15 => 855
  | 16 => 856
  | 17 => 857
  | _ => 858
def ixI (o k : Nat) : Nat := match o with
  | 0 => fJ k
  | 1 => k
  | 3 => 348 + k
  | 4 => 812 + 3 * k + 0
  | 5 => 812 + 3 * k + 1
  | 6 => 812 + 3 * k + 2
  | 7 => 412 + k
  | 10 => 859 + 3 * k + 0
  | 11 => 859 + 3 * k + 1
  | 12 => 859 + 3 * k + 2
  | 13 => 907 + 2 * k + 0
  | 14 => 907 + 2 * k + 1
  | _ => 0
theorem ixI_ok {o k : Nat} (h : vpos o k) : ixI o k < 1707 ∧ pO (ixI o k) = o ∧ pI (ixI o k) = k := by
  rcases h with ⟨rfl, h⟩ | ⟨rfl, h⟩ | ⟨rfl, h⟩ | ⟨rfl | rfl | rfl, h⟩ | ⟨rfl, h⟩ | ⟨rfl | rfl | rfl, h⟩ | ⟨rfl | rfl, h⟩
  · rcases h with rfl | rfl | rfl | rfl | rfl | rfl | rfl | rfl | rfl | rfl | rfl <;> decide
  · exact ⟨by show k < 1707; omega, pa h⟩
  · exact ⟨by show 348 + k < 1707; omega, pb h⟩
  · exact ⟨by show 812 + 3 * k + 0 < 1707; omega, pd0 h⟩
  · exact ⟨by show 812 + 3 * k + 1 < 1707; omega, pd1 h⟩
  · exact ⟨by show 812 + 3 * k + 2 < 1707; omega, pd2 h⟩
  · exact ⟨by show 412 + k < 1707; omega, pc h⟩
  · exact ⟨by show 859 + 3 * k + 0 < 1707; omega, pe0 h⟩
  · exact ⟨by show 859 + 3 * k + 1 < 1707; omega, pe1 h⟩
  · exact ⟨by show 859 + 3 * k + 2 < 1707; omega, pe2 h⟩
  · exact ⟨by show 907 + 2 * k + 0 < 1707; omega, pf0 h⟩
  · exact ⟨by show 907 + 2 * k + 1 < 1707; omega, pf1 h⟩
theorem ixI_f : ∀ j, j < 11 → ixI (pO (848 + j)) (pI (848 + j)) = 848 + j := by
  intro j hj
  match j, hj with
  | 0, _ => rfl
  | 1, _ => rfl
  | 2, _ => rfl
  | 3, _ => rfl
  | 4, _ => rfl
  | 5, _ => rfl
  | 6, _ => rfl
  | 7, _ => rfl
  | 8, _ => rfl
  | 9, _ => rfl
  | 10, _ => rfl
theorem ixI_p {n : Nat} (h : n < 1707) : ixI (pO n) (pI n) = n := by
  by_cases h1 : n < 348
  · rw [(pa h1).1, (pa h1).2]; rfl
  by_cases h2 : n < 412
  · obtain ⟨c, rfl⟩ : ∃ c, n = 348 + c := ⟨n - 348, by omega⟩
    rw [(pb (c := c) (by omega)).1, (pb (c := c) (by omega)).2]; rfl
  by_cases h3 : n < 812
  · obtain ⟨c, rfl⟩ : ∃ c, n = 412 + c := ⟨n - 412, by omega⟩
    rw [(pc (c := c) (by omega)).1, (pc (c := c) (by omega)).2]; rfl
  by_cases h4 : n < 848
  · obtain ⟨c, hc⟩ : ∃ c, c = (n - 812) / 3 := ⟨_, rfl⟩
    have h9 : n = 812 + 3 * c + 0 ∨ n = 812 + 3 * c + 1 ∨ n = 812 + 3 * c + 2 := by omega
    rcases h9 with rfl | rfl | rfl
    · rw [(pd0 (c := c) (by omega)).1, (pd0 (c := c) (by omega)).2]; rfl
    · rw [(pd1 (c := c) (by omega)).1, (pd1 (c := c) (by omega)).2]; rfl
    · rw [(pd2 (c := c) (by omega)).1, (pd2 (c := c) (by omega)).2]; rfl
  by_cases h5 : n < 859
  · obtain ⟨c, rfl⟩ : ∃ c, n = 848 + c := ⟨n - 848, by omega⟩
    exact ixI_f c (by omega)
  by_cases h6 : n < 907
  · obtain ⟨c, hc⟩ : ∃ c, c = (n - 859) / 3 := ⟨_, rfl⟩
    have h9 : n = 859 + 3 * c + 0 ∨ n = 859 + 3 * c + 1 ∨ n = 859 + 3 * c + 2 := by omega
    rcases h9 with rfl | rfl | rfl
    · rw [(pe0 (c := c) (by omega)).1, (pe0 (c := c) (by omega)).2]; rfl
    · rw [(pe1 (c := c) (by omega)).1, (pe1 (c := c) (by omega)).2]; rfl
    · rw [(pe2 (c := c) (by omega)).1, (pe2 (c := c) (by omega)).2]; rfl
  · obtain ⟨c, hc⟩ : ∃ c, c = (n - 907) / 2 := ⟨_, rfl⟩
    have h9 : n = 907 + 2 * c + 0 ∨ n = 907 + 2 * c + 1 := by omega
    rcases h9 with rfl | rfl
    · rw [(pf0 (c := c) (by omega)).1, (pf0 (c := c) (by omega)).2]; rfl
    · rw [(pf1 (c := c) (by omega)).1, (pf1 (c := c) (by omega)).2]; rfl
/-- an image, seen as a model -/
def vwI (I : Nat → Int32) : SS := fun o k => I (ixI o k)
theorem img_t (S : SS) : ∀ n, (∀ o, o ≠ 22 → imgF true S n o = S o) ∧ ∀ j, imgF true S n 22 j = if j < n then S (pO j) (pI j) else S 22 j
  | 0 => ⟨fun _ _ => rfl, fun j => rfl⟩
  | n + 1 => by
    obtain ⟨h1, h2⟩ := img_t S n
    have e : imgF true S (n + 1) = up2 (imgF true S n) 22 n (imgF true S n (pO n) (pI n)) := rfl
    refine ⟨fun o ho => ?_, fun j => ?_⟩
    · rw [e, up2_n ho]; exact h1 o ho
    · rw [e, up2_ap, h1 (pO n) (pO_22 n)]
      by_cases q : j = n
      · subst q
        rw [if_pos ⟨rfl, rfl⟩, if_pos (by omega)]
      · rw [if_neg (fun z => q z.2), h2 j]
        by_cases q2 : j < n
        · rw [if_pos q2, if_pos (by omega)]
        · rw [if_neg q2, if_neg (by omega)]
theorem img_f (S : SS) : ∀ n, n ≤ 1707 → imgF false S n 22 = S 22 ∧ (∀ j, j < n → imgF false S n (pO j) (pI j) = S 22 j) ∧ ∀ o k, (∀ j, j < n → ¬ (o = pO j ∧ k = pI j)) → imgF false S n o k = S o k
  | 0, _ => ⟨rfl, fun j h => by omega, fun _ _ _ => rfl⟩
  | n + 1, hn => by
    obtain ⟨h1, h2, h3⟩ := img_f S n (by omega)
    have e : imgF false S (n + 1) = up2 (imgF false S n) (pO n) (pI n) (imgF false S n 22 n) := rfl
    refine ⟨?_, fun j hj => ?_, fun o k ho => ?_⟩
    · rw [e, up2_n (Ne.symm (pO_22 n))]; exact h1
    · rw [e, up2_ap, h1]
      by_cases q : j = n
      · subst q
        rw [if_pos ⟨rfl, rfl⟩]
      · rw [if_neg, h2 j (by omega)]
        intro z
        have h9 := ixI_p (n := j) (by omega)
        rw [z.1, z.2, ixI_p (n := n) (by omega)] at h9
        exact q h9.symm
    · rw [e, up2_ap, if_neg (ho n (by omega))]
      exact h3 o k (fun j hj => ho j (by omega))
/-! class and model -/
def RU (T S : Nat → Nat → Int32) (N : Nat → Int32) : Prop := RN T (gN (S 0 16)) N ∧ XN T S
/-- the rows that can be undone -/
def RelU (W : XW) (M : SS) : Prop := ∃ u, u ≤ 12 ∧ W.F 8 = nI u ∧ M 0 3 = nI u ∧ (∀ k, k < u → RU (W.S (3 + W.pi k)) (W.S 0) (fun j => M 2 (348 * k + j))) ∧ (∀ k, k < u → gN (W.S (3 + W.pi k) 0 17) ≤ gN (W.S 0 0 17)) ∧ ∀ k k', k ≤ k' → k' < u → gN (W.S (3 + W.pi k) 0 17) ≤ gN (W.S (3 + W.pi k') 0 17)
/-- the tape -/
def RelT (W : XW) (M : SS) : Prop := ∃ t, t ≤ 400 ∧ W.F 1 = nI t ∧ M 0 20 = nI t ∧ ∀ k, k < t → (W.T k &&& 255) = M 8 k ∧ ∃ y, y < 256 ∧ M 8 k = nI y ∧ W.T k = (W.T k).toInt8.toInt32
def RelI (W : XW) (M : SS) : Prop := ∃ q, W.F 9 = bI q ∧ M 0 47 = bI q ∧ (q = true → RW (W.S 1) (W.Ls 1) (vwI (M 22)))
def RelE (W : XW) (M : SS) : Prop := W.F 2 = M 0 38 ∧ W.F 3 = M 0 39 ∧ M 9 = wtb
def RelX (W : XW) (M : SS) : Prop := RW (W.S 0) (W.Ls 0) M ∧ RelU W M ∧ RelT W M ∧ RelI W M ∧ RelE W M
theorem RelX.w {W : XW} {M : SS} (r : RelX W M) : RW (W.S 0) (W.Ls 0) M := r.1
theorem RelX.u {W : XW} {M : SS} (r : RelX W M) : RelU W M := r.2.1
theorem RelX.t {W : XW} {M : SS} (r : RelX W M) : RelT W M := r.2.2.1
theorem RelX.i {W : XW} {M : SS} (r : RelX W M) : RelI W M := r.2.2.2.1
theorem RelX.e {W : XW} {M : SS} (r : RelX W M) : RelE W M := r.2.2.2.2
theorem RelX.tl {W : XW} {M : SS} (r : RelX W M) : RelX W (tl M) := ⟨r.w.up (by unfold vpos; omega), r.u, r.t, r.i, r.e⟩
theorem XW.up_sf (W : XW) (j o k : Nat) : W.up j o k (W.S j o k) = W := by
  unfold XW.up XW.uS
  rw [up2_sf, upN_self]
/-! the same asked of both -/
theorem isIn_lt {q y : Int32} {B : Nat} (h : Bd B y) (hB : B < 2 ^ 31) : isInB q 0 (y - 1) = (decide (0 ≤ q) && decide (q < y)) := by
  unfold isInB
  by_cases h0 : 0 ≤ q
  · rw [decide_eq_true h0, Bool.true_and, Bool.true_and]
    obtain ⟨j, hj, rfl⟩ := nI_of (x := q) (by rw [Int32.not_lt]; exact h0)
    have h2 := h.2
    rw [h.1]
    rcases Nat.eq_zero_or_pos (gN y) with e | e
    · rw [e]
      rw [decide_eq_false (fun z => absurd (Int32.le_trans h0 z) (by decide)), decide_eq_false (by rw [nI_ltI hj (by decide)]; omega)]
    · rw [show (1 : Int32) = nI 1 from rfl, pk_sub e]
      rw [Bool.eq_iff_iff, decide_eq_true_eq, decide_eq_true_eq, nI_leI hj (by omega), nI_ltI hj (by omega)]
      omega
  · rw [decide_eq_false h0, Bool.false_and, Bool.false_and]
section RR
variable {W : XW} {M : SS}
theorem RelX.ps (r : RelX W M) (q : Int32) : psB M q = psX W q := by
  unfold psX psB
  rw [isIn_lt (r.w.1 4) (by decide), r.w.2.2.2.1 4]
theorem RelX.wn (r : RelX W M) (q : Int32) : wnB M q = wnX W q := by
  unfold wnX wnB
  rw [isIn_lt (r.w.1 3) (by decide), r.w.2.2.2.1 3]
theorem RelX.cell (r : RelX W M) (c : Int32) : isCellM M c = isCellB (W.S 0) c := cell_eq r.w.1 (r.w.2.2.2.1 0) (r.w.2.2.2.1 1) c
theorem RelX.rd (r : RelX W M) (c x : Int32) : arM M c x = rdX W c x := by
  unfold arM rdX
  rw [r.cell]
theorem RelX.sq (r : RelX W M) : Sq8 M := by
  unfold Sq8
  rw [show M 0 5 = _ from r.w.2.2.2.1 0, show M 0 6 = _ from r.w.2.2.2.1 1]
  exact ⟨(r.w.1 0).1, (r.w.1 1).1⟩
theorem RelX.pn (r : RelX W M) : PnM M := by
  unfold PnM
  rw [show M 0 12 = _ from r.w.2.2.2.1 4, show M 0 8 = _ from r.w.2.2.2.1 3, show M 1 347 = _ from r.w.2.2.1 0]
  exact ⟨r.w.1 4, r.w.1 3, r.w.2.1 0⟩
theorem RelX.cap (r : RelX W M) {c : Nat} (hc : c < 64) : capB (W.S 0) (nI c) = capM M c := cap_M r.w hc
theorem RelX.wd1 (r : RelX W M) {c : Nat} (hc : c < 64) : M 1 c - 1 = W.S 0 2 c := by
  rw [show M 1 c = _ from r.w.2.2.1 2 c hc]
  simp
theorem RelX.wd (r : RelX W M) : wdM M := by
  intro c hc h
  rw [← r.cap hc] at h
  obtain ⟨h1, h2⟩ := cap_word r.w hc h
  exact ⟨gN (W.S 0 2 c), by have := h1.2; omega, by rw [r.wd1 hc]; exact h1.1⟩
theorem RelX.ge (r : RelX W M) : ∀ c, c < 64 → 0 ≤ M 1 c := by
  intro c hc
  rw [show M 1 c = _ from r.w.2.2.1 2 c hc]
  rcases r.w.2.1 2 c hc with h | ⟨h, -, -⟩
  · rw [h]; decide
  · rw [h.1, nI_1]
    exact nI_pos' (by have := h.2; omega)
theorem RelX.rg (r : RelX W M) : RG (W.S 0) (thkF M) 0 (M 0 16) := by
  refine ⟨fun k hk => (r.cap hk).symm, fun k hk => r.w.2.2.1 2 k hk, fun c hc h => ?_, ?_, ?_⟩
  · have h1 : capB (W.S 0) (nI c) = true := by rw [r.cap hc]; exact h
    have hn := cap_ne r.w hc h1
    refine ⟨?_, r.w.2.2.1 4 c hc hn, ?_⟩
    · show cpy 64 (M 18) (fun j => M 1 (64 + j)) c = _
      rw [cpy_lt hc]
      exact r.w.2.2.1 3 c hc hn
    · show (if M 3 c + 10 - 0 < 0 then 0 else M 3 c + 10 - 0) = _
      have hcell : isCellB (W.S 0) (nI c) = true := by
        unfold capB at h1
        rw [Bool.and_eq_true] at h1
        exact h1.1
      rw [show M 3 c = _ from r.w.2.2.2.1 10 c hc hcell]
      have e : W.S 0 1 c - 10 + 10 - 0 = W.S 0 1 c := by simp
      rw [e]
      have h0 := (r.w.1 9 c hc).ge (by decide)
      rw [if_neg (by rw [Int32.not_lt]; exact h0)]
  · show M 0 17 + 0 = _
    rw [show M 0 17 = _ from r.w.2.2.2.1 2]
    simp
  · exact (r.w.2.2.2.1 6).symm
end RR
theorem sw_case (x : Int32) (n : Nat) (hn : n < 2 ^ 31) : (∃ k, k ≤ n ∧ x = nI k) ∨ ((x.toInt < 0 ∨ (n : Int) < x.toInt) ∧ ∀ k, k ≤ n → ¬ x = nI k) := by
  by_cases h0 : x < 0
  · refine Or.inr ⟨Or.inl (by simpa [Int32.lt_iff_toInt_lt] using h0), fun k hk e => ?_⟩
    rw [e] at h0
    exact nI_pos (by omega) h0
  · obtain ⟨j, hj, rfl⟩ := nI_of h0
    by_cases h : j ≤ n
    · exact Or.inl ⟨j, h, rfl⟩
    · refine Or.inr ⟨Or.inr (by rw [nI_toInt hj]; omega), fun k hk e => ?_⟩
      have := (nI_eq hj (by omega)).mp e
      omega
