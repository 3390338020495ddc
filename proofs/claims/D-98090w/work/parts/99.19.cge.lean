set_option maxRecDepth 100000
/-! conditions: places move on -/
theorem pC_ge {t : Nat → Int32} {n : Nat} : ∀ (f m o : Nat) (acc : Code9) (k : Nat), k ≤ n → ∀ d k2, pC t n f m o acc k = .inr (d, k2) → k ≤ k2 ∧ k2 ≤ n ∧ (m = 0 ∨ 3 ≤ m → k < k2)
  | 0, m, o, acc, k, hk, d, k2, h => by
    unfold pC at h
    cases h
  | f + 1, 0, o, acc, k, hk, d, k2, h => by
    unfold pC at h
    split at h
    · rename_i hs
      have ha := wrd_adv hk hs
      split at h
      · cases h
      · cases hu : pC t n f 0 (o + 1) [] (tN t n k) with
        | inl e => rw [hu] at h; cases h
        | inr q =>
          rw [hu] at h
          obtain ⟨c1, k1⟩ := q
          have := pC_ge f 0 (o + 1) [] _ ha.2 c1 k1 hu
          cases h
          exact ⟨by omega, by omega, fun _ => by omega⟩
    · split at h
      · rename_i hs
        have ha := sgn_adv hk hs
        split at h
        · cases h
        · cases hu : pC t n f 3 (o + 1) [] (tN t n k) with
          | inl e => rw [hu] at h; cases h
          | inr q =>
            rw [hu] at h
            obtain ⟨c1, k1⟩ := q
            have := pC_ge f 3 (o + 1) [] _ ha.2 c1 k1 hu
            dsimp only at h
            split at h
            · rename_i hs2
              have hb := sgn_adv this.2.1 hs2
              cases h
              exact ⟨by omega, by omega, fun _ => by omega⟩
            · cases h
      · have := pCmp_g hk d k2 h
        exact ⟨by omega, by omega, fun _ => by omega⟩
  | f + 1, 1, o, acc, k, hk, d, k2, h => by
    unfold pC at h
    split at h
    · rename_i hs
      have ha := wrd_adv hk hs
      cases hu : pC t n f 0 o [] (tN t n k) with
      | inl e => rw [hu] at h; cases h
      | inr q =>
        rw [hu] at h
        obtain ⟨c1, k1⟩ := q
        have h1 := pC_ge f 0 o [] _ ha.2 c1 k1 hu
        have h2 := pC_ge f 1 o _ k1 h1.2.1 d k2 h
        exact ⟨by omega, by omega, fun _ => by omega⟩
    · cases h
      exact ⟨Nat.le_refl _, hk, fun q => by omega⟩
  | f + 1, 2, o, acc, k, hk, d, k2, h => by
    unfold pC at h
    split at h
    · rename_i hs
      have ha := wrd_adv hk hs
      cases hu : pC t n f 4 o [] (tN t n k) with
      | inl e => rw [hu] at h; cases h
      | inr q =>
        rw [hu] at h
        obtain ⟨c1, k1⟩ := q
        have h1 := pC_ge f 4 o [] _ ha.2 c1 k1 hu
        have h2 := pC_ge f 2 o _ k1 h1.2.1 d k2 h
        exact ⟨by omega, by omega, fun _ => by omega⟩
    · cases h
      exact ⟨Nat.le_refl _, hk, fun q => by omega⟩
  | f + 1, 3, o, acc, k, hk, d, k2, h => by
    unfold pC at h
    cases hu : pC t n f 4 o [] k with
    | inl e => rw [hu] at h; cases h
    | inr q =>
      rw [hu] at h
      obtain ⟨c1, k1⟩ := q
      have h1 := pC_ge f 4 o [] _ hk c1 k1 hu
      have h2 := pC_ge f 2 o _ k1 h1.2.1 d k2 h
      have h3 := h1.2.2 (Or.inr (by decide))
      exact ⟨by omega, by omega, fun _ => by omega⟩
  | f + 1, m + 4, o, acc, k, hk, d, k2, h => by
    unfold pC at h
    cases hu : pC t n f 0 o [] k with
    | inl e => rw [hu] at h; cases h
    | inr q =>
      rw [hu] at h
      obtain ⟨c1, k1⟩ := q
      have h1 := pC_ge f 0 o [] _ hk c1 k1 hu
      have h2 := pC_ge f 1 o _ k1 h1.2.1 d k2 h
      have h3 := h1.2.2 (Or.inl rfl)
      exact ⟨by omega, by omega, fun _ => by omega⟩
/-- the method M reads the condition that pC says at fuel f, kind md, with o open -/
def PCo (M : Mth) (f md a o D : Nat) : Prop := ∀ (l : Launch) (G : GG) (d r z k : Nat) (c : RC) (F : Nat → Int32) (h : AH) (P : Option Value → AH → Nat → Prop) (PX : Nat → AH → Nat → Prop), l.stackTraces = false → D ≤ d → IsRd G r c F h → AtT c F k → (r < z ∧ c.1 + 1 < z) → F 4 = nI o → 4 * (c.2.1 - k) + a ≤ f → PRd G r c F z h (pC c.2.2.1 c.2.1 f md o [] k) P PX → CtX l G M d (cC c.2.1 k (pC c.2.2.1 c.2.1 f md o [] k)) (cS c.2.1 k (pC c.2.2.1 c.2.1 f md o [] k)) [.ref r] h z P PX
