set_option maxRecDepth 100000
/-! THE READER's token and the model's -/
def kwT (j : Nat) : Int32 := match j with
  | 0 => 7
  | 1 => 3
  | 2 => 4
  | 3 => 5
  | 4 => 6
  | j + 5 => nI (180 + j)
theorem w_dist : ∀ i, i < 14 → ∀ j, j < 14 → wL i = wL j → (∀ k, k < wL i → wtab (wP i + 1 + k) = wtab (wP j + 1 + k)) → i = j := by decide +kernel
theorem isW_inj {t : Nat → Int32} {a b i j : Nat} (hi : i < 14) (hj : j < 14) (h1 : isWB t a b i = true) (h2 : isWB t a b j = true) : i = j := by
  unfold isWB at h1 h2
  rw [Bool.and_eq_true, decide_eq_true_eq] at h1 h2
  have e : wL i = wL j := h1.1.symm.trans h2.1
  refine w_dist i hi j hj e (fun k hk => ?_)
  rw [← eqW_all.mp h1.2 k hk, ← eqW_all.mp h2.2 k (by omega)]
theorem widF_cases {t : Nat → Int32} {a b : Nat} : ∀ f j, (∃ i, j ≤ i ∧ i < j + f ∧ widF t a b f j = nI i ∧ isWB t a b i = true) ∨ (widF t a b f j = -1 ∧ ∀ i, j ≤ i → i < j + f → isWB t a b i = false)
  | 0, j => Or.inr ⟨rfl, fun i h1 h2 => absurd h1 (by omega)⟩
  | f + 1, j => by
    unfold widF
    by_cases h : isWB t a b j = true
    · rw [if_pos h]
      exact Or.inl ⟨j, by omega, by omega, rfl, h⟩
    · rw [if_neg h]
      rcases widF_cases (t := t) (a := a) (b := b) f (j + 1) with ⟨i, h1, h2, h3, h4⟩ | ⟨h1, h2⟩
      · exact Or.inl ⟨i, by omega, by omega, h3, h4⟩
      · refine Or.inr ⟨h1, fun i h3 h4 => ?_⟩
        by_cases e : i = j
        · subst e
          cases q : isWB t a b i with
          | false => rfl
          | true => exact absurd q h
        · exact h2 i (by omega) (by omega)
theorem kw_wid {t : Nat → Int32} {a b : Nat} : (∃ j, j < 14 ∧ wid t a b = nI j ∧ kwX t a b = kwT j) ∨ (wid t a b = -1 ∧ kwX t a b = 1) := by
  rcases widF_cases (t := t) (a := a) (b := b) 14 0 with ⟨j, -, h2, h3, h4⟩ | ⟨h1, h2⟩
  · refine Or.inl ⟨j, by omega, h3, ?_⟩
    have hf : ∀ i, i < 14 → ¬ i = j → ¬ isWB t a b i = true := fun i hi hn q => hn (isW_inj hi (by omega) q h4)
    have hj : j < 14 := by omega
    unfold kwX knX
    match j, hj, h4, hf with
    | 0, _, h4, hf => rw [if_neg (hf 1 (by decide) (by decide)), if_neg (hf 2 (by decide) (by decide)), if_neg (hf 3 (by decide) (by decide)), if_neg (hf 4 (by decide) (by decide)), if_pos h4]; rfl
    | 1, _, h4, hf => rw [if_pos h4]; rfl
    | 2, _, h4, hf => rw [if_neg (hf 1 (by decide) (by decide)), if_pos h4]; rfl
    | 3, _, h4, hf => rw [if_neg (hf 1 (by decide) (by decide)), if_neg (hf 2 (by decide) (by decide)), if_pos h4]; rfl
    | 4, _, h4, hf => rw [if_neg (hf 1 (by decide) (by decide)), if_neg (hf 2 (by decide) (by decide)), if_neg (hf 3 (by decide) (by decide)), if_pos h4]; rfl
    | j + 5, hj, h4, hf =>
      rw [if_neg (hf 1 (by decide) (by omega)), if_neg (hf 2 (by decide) (by omega)), if_neg (hf 3 (by decide) (by omega)), if_neg (hf 4 (by decide) (by omega)), if_neg (hf 0 (by decide) (by omega))]
      match j, hj, h4, hf with
      | 0, _, h4, hf => rw [if_pos h4]; rfl
      | 1, _, h4, hf => rw [if_neg (hf 5 (by decide) (by decide)), if_pos h4]; rfl
      | 2, _, h4, hf => rw [if_neg (hf 5 (by decide) (by decide)), if_neg (hf 6 (by decide) (by decide)), if_pos h4]; rfl
      | 3, _, h4, hf => rw [if_neg (hf 5 (by decide) (by decide)), if_neg (hf 6 (by decide) (by decide)), if_neg (hf 7 (by decide) (by decide)), if_pos h4]; rfl
      | 4, _, h4, hf => rw [if_neg (hf 5 (by decide) (by decide)), if_neg (hf 6 (by decide) (by decide)), if_neg (hf 7 (by decide) (by decide)), if_neg (hf 8 (by decide) (by decide)), if_pos h4]; rfl
      | 5, _, h4, hf => rw [if_neg (hf 5 (by decide) (by decide)), if_neg (hf 6 (by decide) (by decide)), if_neg (hf 7 (by decide) (by decide)), if_neg (hf 8 (by decide) (by decide)), if_neg (hf 9 (by decide) (by decide)), if_pos h4]; rfl
      | 6, _, h4, hf => rw [if_neg (hf 5 (by decide) (by decide)), if_neg (hf 6 (by decide) (by decide)), if_neg (hf 7 (by decide) (by decide)), if_neg (hf 8 (by decide) (by decide)), if_neg (hf 9 (by decide) (by decide)), if_neg (hf 10 (by decide) (by decide)), if_pos h4]; rfl
      | 7, _, h4, hf => rw [if_neg (hf 5 (by decide) (by decide)), if_neg (hf 6 (by decide) (by decide)), if_neg (hf 7 (by decide) (by decide)), if_neg (hf 8 (by decide) (by decide)), if_neg (hf 9 (by decide) (by decide)), if_neg (hf 10 (by decide) (by decide)), if_neg (hf 11 (by decide) (by decide)), if_pos h4]; rfl
      | 8, _, h4, hf => rw [if_neg (hf 5 (by decide) (by decide)), if_neg (hf 6 (by decide) (by decide)), if_neg (hf 7 (by decide) (by decide)), if_neg (hf 8 (by decide) (by decide)), if_neg (hf 9 (by decide) (by decide)), if_neg (hf 10 (by decide) (by decide)), if_neg (hf 11 (by decide) (by decide)), if_neg (hf 12 (by decide) (by decide)), if_pos h4]; rfl
      | j + 9, hj, _, _ => exact absurd hj (by omega)
  · refine Or.inr ⟨h1, ?_⟩
    have hf : ∀ i, i < 14 → ¬ isWB t a b i = true := fun i hi q => by rw [h2 i (by omega) (by omega)] at q; cases q
    unfold kwX knX
    rw [if_neg (hf 1 (by decide)), if_neg (hf 2 (by decide)), if_neg (hf 3 (by decide)), if_neg (hf 4 (by decide)), if_neg (hf 0 (by decide)), if_neg (hf 5 (by decide)), if_neg (hf 6 (by decide)), if_neg (hf 7 (by decide)), if_neg (hf 8 (by decide)), if_neg (hf 9 (by decide)), if_neg (hf 10 (by decide)), if_neg (hf 11 (by decide)), if_neg (hf 12 (by decide)), if_neg (hf 13 (by decide))]
/-- kind and number of the model's token, the reader's token -/
def TC (K V x : Int32) : Prop := (K = 0 ∧ x = 0) ∨ (K = 1 ∧ x = 1) ∨ (∃ j, j < 14 ∧ K = 2 ∧ V = nI j ∧ x = kwT j) ∨ (K = 3 ∧ x = 2) ∨ (K = 4 ∧ x = V ∧ markB V = true)
theorem tok_tc {t : Nat → Int32} {n s : Nat} : TC (tkK t n s) (tkV t n s) (tokX t n s) := by
  unfold TC tkK tkV tokX
  by_cases h1 : chr t n s = -1
  · rw [if_pos h1, if_pos h1]; exact Or.inl ⟨rfl, rfl⟩
  rw [if_neg h1, if_neg h1]
  by_cases h2 : letB (chr t n s) = true
  · rw [if_pos h2, if_pos h2, if_pos h2]
    rcases kw_wid (t := t) (a := s) (b := runE letB t n (s + 1)) with ⟨j, g1, g2, g3⟩ | ⟨g1, g2⟩
    · have : ∀ j, j < 14 → ¬ nI j = -1 := by decide
      rw [g2, if_neg (this j g1)]
      exact Or.inr (Or.inr (Or.inl ⟨j, g1, rfl, rfl, g3⟩))
    · rw [if_pos g1]
      exact Or.inr (Or.inl ⟨rfl, g2⟩)
  rw [if_neg h2, if_neg h2, if_neg h2]
  by_cases h3 : digB (chr t n s) = true
  · rw [if_pos h3, if_pos h3, if_pos h3]
    by_cases h4 : runE digB t n (s + 1) - s < 5
    · rw [if_pos h4, if_pos h4]
      exact Or.inr (Or.inr (Or.inr (Or.inl ⟨rfl, rfl⟩)))
    · rw [if_neg h4, if_neg h4]
      exact Or.inr (Or.inl ⟨rfl, rfl⟩)
  rw [if_neg h3, if_neg h3, if_neg h3]
  by_cases h4 : markB (chr t n s) = true
  · rw [if_pos h4, if_pos h4]
    exact Or.inr (Or.inr (Or.inr (Or.inr ⟨rfl, rfl, h4⟩)))
  · rw [if_neg h4, if_neg h4]
    exact Or.inr (Or.inl ⟨rfl, rfl⟩)
theorem mark_l {v : Int32} (h : markB v = true) : v = 59 ∨ v = 43 ∨ v = 45 ∨ v = 42 ∨ v = 47 ∨ v = 40 ∨ v = 41 ∨ v = 60 ∨ v = 61 ∨ v = 62 := by
  unfold markB at h
  simp only [Bool.or_eq_true, decide_eq_true_eq] at h
  exact h
theorem kwT_no : ∀ j, j < 14 → ¬ kwT j = 0 ∧ ¬ kwT j = 2 ∧ ¬ markB (kwT j) = true := by decide
theorem kwT_w : ∀ j, j < 14 → (kwT j = 7 ↔ nI j = 0) ∧ (kwT j = 3 ↔ nI j = 1) ∧ (kwT j = 4 ↔ nI j = 2) ∧ (kwT j = 5 ↔ nI j = 3) ∧ (kwT j = 6 ↔ nI j = 4) ∧ (isInB (kwT j) 180 188 = true ↔ 5 ≤ nI j) ∧ (5 ≤ nI j → kwT j - 180 = nI j - 5) := by decide
section TCs
variable {K V x : Int32}
theorem TC.num (h : TC K V x) : x = 2 ↔ K = 3 := by
  rcases h with ⟨rfl, rfl⟩ | ⟨rfl, rfl⟩ | ⟨j, hj, rfl, rfl, rfl⟩ | ⟨rfl, rfl⟩ | ⟨rfl, rfl, hm⟩
  · decide
  · decide
  · exact ⟨fun q => absurd q (kwT_no j hj).2.1, fun q => absurd q (by decide)⟩
  · exact ⟨fun _ => rfl, fun _ => rfl⟩
  · rcases mark_l hm with rfl | rfl | rfl | rfl | rfl | rfl | rfl | rfl | rfl | rfl <;> decide
theorem TC.en (h : TC K V x) : x = 0 ↔ K = 0 := by
  rcases h with ⟨rfl, rfl⟩ | ⟨rfl, rfl⟩ | ⟨j, hj, rfl, rfl, rfl⟩ | ⟨rfl, rfl⟩ | ⟨rfl, rfl, hm⟩
  · exact ⟨fun _ => rfl, fun _ => rfl⟩
  · decide
  · exact ⟨fun q => absurd q (kwT_no j hj).1, fun q => absurd q (by decide)⟩
  · decide
  · rcases mark_l hm with rfl | rfl | rfl | rfl | rfl | rfl | rfl | rfl | rfl | rfl <;> decide
theorem TC.sg (h : TC K V x) {c : Int32} (hc : markB c = true) : x = c ↔ (decide (K = 4) && decide (V = c)) = true := by
  rw [Bool.and_eq_true, decide_eq_true_eq, decide_eq_true_eq]
  rcases h with ⟨rfl, rfl⟩ | ⟨rfl, rfl⟩ | ⟨j, hj, rfl, rfl, rfl⟩ | ⟨rfl, rfl⟩ | ⟨rfl, rfl, hm⟩
  · rcases mark_l hc with rfl | rfl | rfl | rfl | rfl | rfl | rfl | rfl | rfl | rfl <;> exact ⟨fun q => absurd q (by decide), fun q => absurd q.1 (by decide)⟩
  · rcases mark_l hc with rfl | rfl | rfl | rfl | rfl | rfl | rfl | rfl | rfl | rfl <;> exact ⟨fun q => absurd q (by decide), fun q => absurd q.1 (by decide)⟩
  · exact ⟨fun q => absurd (by rw [q]; exact hc) (kwT_no j hj).2.2, fun q => absurd q.1 (by decide)⟩
  · rcases mark_l hc with rfl | rfl | rfl | rfl | rfl | rfl | rfl | rfl | rfl | rfl <;> exact ⟨fun q => absurd q (by decide), fun q => absurd q.1 (by decide)⟩
  · exact ⟨fun q => ⟨rfl, q⟩, fun q => q.2⟩
theorem TC.wd (h : TC K V x) {c w : Int32} (hw : ∀ j, j < 14 → (kwT j = c ↔ nI j = w)) (hc : ¬ c = 0 ∧ ¬ c = 1 ∧ ¬ c = 2 ∧ ¬ markB c = true) : x = c ↔ (decide (K = 2) && decide (V = w)) = true := by
  rw [Bool.and_eq_true, decide_eq_true_eq, decide_eq_true_eq]
  rcases h with ⟨rfl, rfl⟩ | ⟨rfl, rfl⟩ | ⟨j, hj, rfl, rfl, rfl⟩ | ⟨rfl, rfl⟩ | ⟨rfl, rfl, hm⟩
  · exact ⟨fun q => absurd q.symm hc.1, fun q => absurd q.1 (by decide)⟩
  · exact ⟨fun q => absurd q.symm hc.2.1, fun q => absurd q.1 (by decide)⟩
  · rw [hw j hj]
    exact ⟨fun q => ⟨rfl, q⟩, fun q => q.2⟩
  · exact ⟨fun q => absurd q.symm hc.2.2.1, fun q => absurd q.1 (by decide)⟩
  · exact ⟨fun q => absurd (by rw [← q]; exact hm) hc.2.2.2, fun q => absurd q.1 (by decide)⟩
theorem TC.fc (h : TC K V x) : isInB x 180 188 = true ↔ (K = 2 ∧ 5 ≤ V) := by
  rcases h with ⟨rfl, rfl⟩ | ⟨rfl, rfl⟩ | ⟨j, hj, rfl, rfl, rfl⟩ | ⟨rfl, rfl⟩ | ⟨rfl, rfl, hm⟩
  · exact ⟨fun q => absurd q (by decide), fun q => absurd q.1 (by decide)⟩
  · exact ⟨fun q => absurd q (by decide), fun q => absurd q.1 (by decide)⟩
  · rw [(kwT_w j hj).2.2.2.2.2.1]
    exact ⟨fun q => ⟨rfl, q⟩, fun q => q.2⟩
  · exact ⟨fun q => absurd q (by decide), fun q => absurd q.1 (by decide)⟩
  · rcases mark_l hm with rfl | rfl | rfl | rfl | rfl | rfl | rfl | rfl | rfl | rfl <;> exact ⟨fun q => absurd q (by decide), fun q => absurd q.1 (by decide)⟩
theorem TC.fv (h : TC K V x) (hk : K = 2 ∧ 5 ≤ V) : x - 180 = V - 5 := by
  rcases h with ⟨rfl, rfl⟩ | ⟨rfl, rfl⟩ | ⟨j, hj, rfl, rfl, rfl⟩ | ⟨rfl, rfl⟩ | ⟨rfl, rfl, hm⟩
  · exact absurd hk.1 (by decide)
  · exact absurd hk.1 (by decide)
  · exact (kwT_w j hj).2.2.2.2.2.2 hk.2
  · exact absurd hk.1 (by decide)
  · exact absurd hk.1 (by decide)
theorem TC.grow (h : TC K V x) : x = 7 ↔ (decide (K = 2) && decide (V = 0)) = true := h.wd (fun j hj => (kwT_w j hj).1) (by decide)
theorem TC.when_ (h : TC K V x) : x = 3 ↔ (decide (K = 2) && decide (V = 1)) = true := h.wd (fun j hj => (kwT_w j hj).2.1) (by decide)
theorem TC.or_ (h : TC K V x) : x = 4 ↔ (decide (K = 2) && decide (V = 2)) = true := h.wd (fun j hj => (kwT_w j hj).2.2.1) (by decide)
theorem TC.and_ (h : TC K V x) : x = 5 ↔ (decide (K = 2) && decide (V = 3)) = true := h.wd (fun j hj => (kwT_w j hj).2.2.2.1) (by decide)
theorem TC.not_ (h : TC K V x) : x = 6 ↔ (decide (K = 2) && decide (V = 4)) = true := h.wd (fun j hj => (kwT_w j hj).2.2.2.2.1) (by decide)
end TCs
