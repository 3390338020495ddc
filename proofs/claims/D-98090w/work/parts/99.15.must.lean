set_option maxRecDepth 100000
/-! THE READER: what may throw, first methods -/
/-- the reader has the token that begins at the place k -/
def AtT (c : RC) (F : Nat → Int32) (k : Nat) : Prop := F 0 = nI (tN c.2.2.1 c.2.1 k) ∧ F 1 = nI (tS c.2.2.1 c.2.1 k) ∧ F 2 = tokX c.2.2.1 c.2.1 (tS c.2.2.1 c.2.1 k) ∧ (tK c.2.2.1 c.2.1 k = 3 → F 3 = tV c.2.2.1 c.2.1 k) ∧ k ≤ c.2.1
theorem tkN_le {t : Nat → Int32} {n k : Nat} (hk : k ≤ n) : k ≤ tN t n k ∧ tN t n k ≤ n := by
  by_cases h : tK t n k = 0
  · have h1 : k ≤ stP t n k ∧ stP t n k ≤ n := run_le rfl hk
    unfold tK at h
    unfold tN
    generalize stP t n k = s at h h1
    have h2 : chr t n s = -1 := by
      rcases Decidable.em (chr t n s = -1) with q | q
      · exact q
      · exfalso
        unfold tkK at h
        rw [if_neg q] at h
        split at h
        · split at h <;> exact absurd h (by decide)
        · split at h
          · split at h <;> exact absurd h (by decide)
          · split at h <;> exact absurd h (by decide)
    unfold tkN
    rw [if_pos h2]
    exact h1
  · have := tN_adv hk h
    omega
theorem tkK3 {t : Nat → Int32} {n s : Nat} (h : tkK t n s = 3) : digB (chr t n s) = true ∧ tkN t n s - s < 5 ∧ tkV t n s = numF t s (tkN t n s - s) := by
  unfold tkK at h
  split at h
  · exact absurd h (by decide)
  rename_i h1
  split at h
  · split at h <;> exact absurd h (by decide)
  rename_i h2
  split at h
  · rename_i h3
    split at h
    · rename_i h4
      have e : tkN t n s = runE digB t n (s + 1) := by unfold tkN; rw [if_neg h1, if_neg h2, if_pos h3]
      refine ⟨h3, by rw [e]; exact h4, ?_⟩
      rw [e]
      unfold tkV
      rw [if_neg h2, if_pos h3]
    · exact absurd h (by decide)
  · split at h <;> exact absurd h (by decide)
theorem AtT.of {c : RC} {F F' : Nat → Int32} {k : Nat} (h : TkX F' F c.2.2.1 c.2.1 k) (hk : k ≤ c.2.1) : AtT c F' k ∧ F' 4 = F 4 := by
  obtain ⟨h1, h2, h3, h4, h5⟩ := h
  refine ⟨⟨h1, h2, h3, fun q => ?_, hk⟩, h5⟩
  obtain ⟨g1, g2, g3⟩ := tkK3 q
  rw [h4 g1 g2]
  exact g3.symm
theorem AtT.tc {c : RC} {F : Nat → Int32} {k : Nat} (h : AtT c F k) : TC (tK c.2.2.1 c.2.1 k) (tV c.2.2.1 c.2.1 k) (F 2) := by
  rw [h.2.2.1]
  exact tok_tc
theorem AtT.nx {c : RC} {F : Nat → Int32} {k : Nat} (h : AtT c F k) : F 0 = nI (tN c.2.2.1 c.2.1 k) ∧ tN c.2.2.1 c.2.1 k ≤ c.2.1 := ⟨h.1, (tkN_le h.2.2.2.2).2⟩
section RX
variable {l : Launch} {G : GG} {d r z k : Nat} {c : RC} {F : Nat → Int32} {h : AH} {P : Option Value → AH → Nat → Prop} {PX : Nat → AH → Nat → Prop}
theorem r_must {x1 : Int32} (hl : l.stackTraces = false) (hd : 10 ≤ d) (hr : IsRd G r c F h) (hk : AtT c F k)
    (hP : F 2 = x1 → ∀ F' h', AtT c F' (tN c.2.2.1 c.2.1 k) → F' 4 = F 4 → IsRd G r c F' h' → FrR r h h' → P none h' z)
    (hX : ¬ F 2 = x1 → ∀ fs : List Value, fs.length = 8 → PX z (ahU h z (.inr (5, (fs.set 6 (.int 1)).set 7 (.int (nI (tS c.2.2.1 c.2.1 k)))))) (z + 1)) : CtX l G mX4_must d 1 8 [.ref r, .int x1] h z P PX := by
  refine CtX.of rfl (Nat.le_of_ble_eq_true rfl) rfl ?_
  refine X.walk wkX4_must (fcons (ceV r_next rmV0 ckX4_106 rfl rrV0 (by omega) rfl) fnil) (RetOk.x (Nat.zero_le _) (Nat.zero_le _)) ⟨Nat.zero_le _, Nat.zero_le _⟩ [8] 7 rfl ?_
  refine gF hr.obj ?_
  refine And.intro (fun b5 => ?_) (fun b5 => ?_)
  · simp only [cP, cN, bI_0, Bool.not_eq_false, lt_nle, Decidable.not_not] at b5
    refine Exists.intro _ (Exists.intro _ (Exists.intro _ (And.intro hr (And.intro hk.nx ?_))))
    intro F' h' p hr' hf
    obtain ⟨g1, g2⟩ := AtT.of p hk.nx.2
    exact hP b5 F' h' g1 g2 hr' hf
  · simp only [cP, cN, bI_0, Bool.not_eq_false, lt_nle, Decidable.not_not] at b5
    refine X.thrF hl rfl pkX4_must rfl rfl rfl rfl rfl rfl rfl rfl rfl hr.obj rfl (Nat.le_refl 1) (Nat.le_refl 8) (by show 6 ≤ d; omega) (by show 300 ≤ 40 * d; omega) ?_
    intro fs hfs
    refine XThr.out ?_ ahU_s (Nat.le_refl 1) (Nat.le_refl 8)
    rw [hk.2.1]
    exact hX b5 fs hfs
theorem r_number {x1 : Int32} (hl : l.stackTraces = false) (hd : 10 ≤ d) (hr : IsRd G r c F h) (hk : AtT c F k)
    (hP : tK c.2.2.1 c.2.1 k = 3 → x1 ≤ tV c.2.2.1 c.2.1 k → ∀ F' h', AtT c F' (tN c.2.2.1 c.2.1 k) → F' 4 = F 4 → IsRd G r c F' h' → FrR r h h' → P (some (.int (tV c.2.2.1 c.2.1 k))) h' z)
    (hX1 : ¬ tK c.2.2.1 c.2.1 k = 3 → ∀ fs : List Value, fs.length = 8 → PX z (ahU h z (.inr (5, (fs.set 6 (.int 1)).set 7 (.int (nI (tS c.2.2.1 c.2.1 k)))))) (z + 1))
    (hX2 : tK c.2.2.1 c.2.1 k = 3 → ¬ x1 ≤ tV c.2.2.1 c.2.1 k → ∀ fs : List Value, fs.length = 8 → PX z (ahU h z (.inr (5, (fs.set 6 (.int 2)).set 7 (.int (nI (tS c.2.2.1 c.2.1 k)))))) (z + 1)) : CtX l G mX4_number d 1 8 [.ref r, .int x1] h z P PX := by
  refine CtX.of rfl (Nat.le_of_ble_eq_true rfl) rfl ?_
  refine X.walk wkX4_number (fcons (ceV r_next rmV0 ckX4_106 rfl rrV0 (by omega) rfl) fnil) (RetOk.x (Nat.zero_le _) (Nat.zero_le _)) ⟨Nat.zero_le _, Nat.zero_le _⟩ [8, 29] 16 rfl ?_
  refine gF hr.obj ?_
  refine And.intro (fun b5 => ?_) (fun b5 => ?_)
  · simp only [cP, cN, bI_0, Bool.not_eq_false, lt_nle, Decidable.not_not] at b5
    have h3 := hk.tc.num.mp b5
    have hv := hk.2.2.2.1 h3
    refine gF hr.obj ?_
    refine And.intro (fun b26 => ?_) (fun b26 => ?_)
    · simp only [cP, cN, bI_0, Bool.not_eq_false, lt_nle, Decidable.not_not] at b26
      replace b26 : x1 ≤ F 3 := b26
      refine gF hr.obj ?_
      refine Exists.intro _ (Exists.intro _ (Exists.intro _ (And.intro hr (And.intro hk.nx ?_))))
      intro F' h' p hr' hf
      obtain ⟨g1, g2⟩ := AtT.of p hk.nx.2
      have key := hP h3 (by rw [← hv]; exact b26) F' h' g1 g2 hr' hf
      rw [← hv] at key
      exact key
    · simp only [cP, cN, bI_0, Bool.not_eq_false, lt_nle, Decidable.not_not] at b26
      replace b26 : ¬ x1 ≤ F 3 := b26
      refine X.thrF hl rfl pkX4_number rfl rfl rfl rfl rfl rfl rfl rfl rfl hr.obj rfl (Nat.le_refl 1) (Nat.le_refl 8) (by show 6 ≤ d; omega) (by show 300 ≤ 40 * d; omega) ?_
      intro fs hfs
      refine XThr.out ?_ ahU_s (Nat.le_refl 1) (Nat.le_refl 8)
      rw [hk.2.1]
      exact hX2 h3 (by rw [← hv]; exact b26) fs hfs
  · simp only [cP, cN, bI_0, Bool.not_eq_false, lt_nle, Decidable.not_not] at b5
    refine X.thrF hl rfl pkX4_number rfl rfl rfl rfl rfl rfl rfl rfl rfl hr.obj rfl (Nat.le_refl 1) (Nat.le_refl 8) (by show 6 ≤ d; omega) (by show 300 ≤ 40 * d; omega) ?_
    intro fs hfs
    refine XThr.out ?_ ahU_s (Nat.le_refl 1) (Nat.le_refl 8)
    rw [hk.2.1]
    exact hX1 (fun q => b5 (hk.tc.num.mpr q)) fs hfs
theorem r_opens {o : Nat} (hl : l.stackTraces = false) (hd : 10 ≤ d) (hr : IsRd G r c F h) (hk : AtT c F k) (ho : F 4 = nI o) (ho8 : o ≤ 8)
    (hP : ¬ o = 8 → ∀ F' h', AtT c F' (tN c.2.2.1 c.2.1 k) → F' 4 = nI (o + 1) → IsRd G r c F' h' → FrR r h h' → P none h' z)
    (hX : o = 8 → ∀ fs : List Value, fs.length = 8 → PX z (ahU h z (.inr (5, (fs.set 6 (.int 3)).set 7 (.int (nI (tS c.2.2.1 c.2.1 k)))))) (z + 1)) : CtX l G mX4_opens d 1 8 [.ref r] h z P PX := by
  refine CtX.of rfl (Nat.le_of_ble_eq_true rfl) rfl ?_
  refine X.walk wkX4_opens (fcons (ceV r_next rmV0 ckX4_106 rfl rrV0 (by omega) rfl) fnil) (RetOk.x (Nat.zero_le _) (Nat.zero_le _)) ⟨Nat.zero_le _, Nat.zero_le _⟩ [9] 14 rfl ?_
  refine gF hr.obj ?_
  refine And.intro (fun b6 => ?_) (fun b6 => ?_)
  · simp only [cP, cN, bI_0, Bool.not_eq_false, lt_nle, Decidable.not_not] at b6
    replace b6 : ¬ F 4 = 8 := b6
    have h8 : ¬ o = 8 := fun q => b6 (by rw [ho, q]; rfl)
    refine gF hr.obj ?_
    refine pF0 (okV_W rfl) hr.obj (Nat.le_of_ble_eq_true rfl) hr.N ?_
    intro h29 e29
    have hf29 : FrR r h h29 := FrR.rf.u e29
    have hr29 := hr.u e29 rfl
    refine Exists.intro _ (Exists.intro _ (Exists.intro _ (And.intro hr29 (And.intro hk.nx ?_))))
    intro F' h' p hr' hf
    obtain ⟨g1, g2⟩ := AtT.of p hk.nx.2
    exact hP h8 F' h' g1 (by rw [g2]; show F 4 + 1 = _; rw [ho, nI_1]) hr' (hf29.tr hf)
  · simp only [cP, cN, bI_0, Bool.not_eq_false, lt_nle, Decidable.not_not] at b6
    replace b6 : F 4 = 8 := b6
    have h8 : o = 8 := by
      rw [ho, show (8 : Int32) = nI 8 from rfl, nI_eq (by omega) (by decide)] at b6
      exact b6
    refine X.thrF hl rfl pkX4_opens rfl rfl rfl rfl rfl rfl rfl rfl rfl hr.obj rfl (Nat.le_refl 1) (Nat.le_refl 8) (by show 6 ≤ d; omega) (by show 300 ≤ 40 * d; omega) ?_
    intro fs hfs
    refine XThr.out ?_ ahU_s (Nat.le_refl 1) (Nat.le_refl 8)
    rw [hk.2.1]
    exact hX h8 fs hfs
end RX
