set_option maxRecDepth 100000
/-! THE MODEL AGAINST THE WOOD: cells, caps, growth. -/
theorem cell_eq {S : Nat → Nat → Int32} {M : SS} (hb : XB S) (h5 : M 0 5 = S 0 12) (h6 : M 0 6 = S 0 13) (c : Int32) : isCellM M c = isCellB S c := by
  unfold isCellM isCellB isInB
  rw [h5, h6]
  by_cases h0 : 0 ≤ c
  · obtain ⟨j, hj, rfl⟩ := nI_of (x := c) (by rw [Int32.not_lt]; exact h0)
    rw [decide_eq_true h0, Bool.true_and, Bool.true_and]
    have e : nI j / 8 = nI (j / 8) := pk_div (d := 8) hj (by decide) (by decide)
    by_cases h63 : nI j ≤ 63
    · rw [decide_eq_true h63, Bool.true_and]
    · rw [decide_eq_false h63, Bool.false_and]
      have h8 : ¬ nI j / 8 < S 0 13 := by
        have h13 := (hb 1).1
        rw [e, h13.1, nI_ltI (by omega) (by have := h13.2; omega)]
        have : ¬ j ≤ 63 := fun q => h63 (nI_le q (by decide))
        have := h13.2
        omega
      rw [decide_eq_false h8, Bool.and_false]
  · rw [decide_eq_false h0, Bool.false_and, Bool.false_and, Bool.false_and]
theorem fold_sum {p : Nat → Bool} {q : Nat → Int32} (h0 : q 0 = 0) : ∀ {n : Nat}, (∀ k, k < n → q (k + 1) = q k + bI (p k)) → foldN p (fun _ x => x + 1) 0 n = q n
  | 0, _ => h0.symm
  | n + 1, h => by
    have ih := fold_sum (p := p) h0 (n := n) (fun k hk => h k (by omega))
    rw [h n (by omega), ← ih]
    cases e : p n with
    | true => rw [foldN_t e]; rfl
    | false =>
      rw [foldN_f e]
      show _ = _ + 0
      simp
/-- the model's caps, sizes, damp y days from now, against a wood (it may be one in thought) -/
def RG (S : Nat → Nat → Int32) (M : SS) (y fz : Int32) : Prop := (∀ k, k < 64 → capM M k = capB S (nI k)) ∧ (∀ k, k < 64 → M 1 k = S 2 k + 1) ∧ (∀ c, c < 64 → capM M c = true → M 18 c = S 3 c ∧ M 1 (128 + c) = S 4 c ∧ dmpM M c y = S 1 c) ∧ M 0 17 + y = S 0 14 ∧ S 0 19 = fz
theorem add1_inj {x y : Int32} : x + 1 = y + 1 ↔ x = y := by
  constructor
  · intro h
    have h2 := congrArg (fun q => q - 1) h
    simpa using h2
  · intro h; rw [h]
theorem beside_eq {S : Nat → Nat → Int32} {M : SS} (h1 : ∀ k, k < 64 → capM M k = capB S (nI k)) (h2 : ∀ k, k < 64 → M 1 k = S 2 k + 1) {c : Nat} (hc : c < 64) (hcap : capM M c = true) : cbsM M c 0 = besideN S (nI c) 0 64 ∧ cbsM M c (M 1 c) = besideN S (nI c) 1 64 := by
  have hcl : (nI c).toNatClampNeg = c := nI_clamp (by omega)
  constructor
  · unfold cbsM
    rw [foldN_congr (q := besideP S (nI c) 0) (g' := fun _ x => x + 1) (fun k hk => ?_) (fun _ _ _ _ => rfl)]
    · exact fold_sum (q := besideN S (nI c) 0) rfl (fun k _ => rfl)
    · unfold cbM besideP
      rw [h1 k hk]
      simp
  · unfold cbsM
    rw [foldN_congr (q := besideP S (nI c) 1) (g' := fun _ x => x + 1) (fun k hk => ?_) (fun _ _ _ _ => rfl)]
    · exact fold_sum (q := besideN S (nI c) 1) rfl (fun k _ => rfl)
    · unfold cbM besideP
      have hne : ¬ M 1 c = 0 := by
        intro q
        unfold capM at hcap
        rw [q] at hcap
        exact absurd hcap (by decide)
      rw [h1 k hk, hcl, decide_eq_false hne, h2 k hk, h2 c hc, show decide ((1 : Int32) = 0) = false from rfl]
      simp only [add1_inj]
theorem ask_eq {S : Nat → Nat → Int32} {M : SS} {y fz : Int32} (r : RG S M y fz) {c : Nat} (hc : c < 64) (hcap : capM M c = true) : ∀ k, k < 9 → askF M c y fz k = factF (up2 S 0 24 (nI c)) k := by
  have hcl : (nI c).toNatClampNeg = c := nI_clamp (by omega)
  have hb := beside_eq r.1 r.2.1 hc hcap
  obtain ⟨e1, e2, e3⟩ := r.2.2.1 c hc hcap
  intro k hk
  match k, hk with
  | 0, _ => show M 1 c - 1 = S 2 (nI c).toNatClampNeg; rw [hcl, r.2.1 c hc]; simp
  | 1, _ => show M 18 c = S 3 (nI c).toNatClampNeg; rw [hcl]; exact e1
  | 2, _ => show M 0 17 + y - M 1 (128 + c) = S 0 14 - S 4 (nI c).toNatClampNeg; rw [hcl, r.2.2.2.1, e2]
  | 3, _ => show dmpM M c y = S 1 (nI c).toNatClampNeg; rw [hcl]; exact e3
  | 4, _ => show cbsM M c 0 = besideN (up2 S 0 24 (nI c)) (nI c) 0 64; rw [besideN_congr (S := S) (S' := up2 S 0 24 (nI c)) rfl rfl rfl]; exact hb.1
  | 5, _ => show cbsM M c (M 1 c) = besideN (up2 S 0 24 (nI c)) (nI c) 1 64; rw [besideN_congr (S := S) (S' := up2 S 0 24 (nI c)) rfl rfl rfl]; exact hb.2
  | 6, _ => rfl
  | 7, _ => rfl
  | 8, _ => show fz = S 0 19; exact r.2.2.2.2.symm
/-- a cap grows alike -/
theorem grow_eq {S : Nat → Nat → Int32} {M : SS} {y fz : Int32} {L : List Line9} (r : RG S M y fz) (hL : WfL L) {c : Nat} (hc : c < 64) (hcap : capM M c = true) : growsF (askF M c y fz) L = grA S L c := growsF_congr (ask_eq r hc hcap) hL
theorem grw_eq {S : Nat → Nat → Int32} {M : SS} {y fz : Int32} {L : List Line9} (r : RG S M y fz) (hL : WfL L) {c : Nat} (hc : c < 64) (hcap : capM M c = true) : grwM M L y fz c = allGrowF S L 3 c := by
  have e : allGrowF S L 3 c = szF S L 64 c := rfl
  rw [e]
  unfold grwM szF
  rw [grow_eq r hL hc hcap, if_pos ⟨hc, by rw [← r.1 c hc]; exact hcap⟩, (r.2.2.1 c hc hcap).1]
