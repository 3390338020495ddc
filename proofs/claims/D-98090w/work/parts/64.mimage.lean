set_option maxRecDepth 100000
/-! the image in the model: 1707 numbers one behind another -/
def fI (j : Nat) : Nat := match j with
  | 0 => 4
  | 1 => 5
  | 2 => 6
  | 3 => 8
  | 4 => 12
  | 5 => 13
  | 6 => 14
  | 7 => 15
  | 8 => 16
  | 9 => 17
  | _ => 26
def pO (n : Nat) : Nat := if n < 348 then 1 else if n < 412 then 3 else if n < 812 then 7 else if n < 848 then 4 + (n - 812) % 3 else if n < 859 then 0 else if n < 907 then 10 + (n - 859) % 3 else 13 + (n - 907) % 2
def pI (n : Nat) : Nat := if n < 348 then n else if n < 412 then n - 348 else if n < 812 then n - 412 else if n < 848 then (n - 812) / 3 else if n < 859 then fI (n - 848) else if n < 907 then (n - 859) / 3 else (n - 907) / 2
def stI (t : Bool) (S : SS) (n : Nat) : SS := bif t then up2 S 22 n (S (pO n) (pI n)) else up2 S (pO n) (pI n) (S 22 n)
def imgF (t : Bool) (S : SS) : Nat → SS
  | 0 => S
  | n + 1 => stI t (imgF t S n) n
def imK (t : Bool) (S : SS) (n : Nat) : SS := up2 (imgF t S n) 0 48 (nI n)
theorem pa {c : Nat} (h : c < 348) : pO (c) = 1 ∧ pI (c) = c := by
  unfold pO pI
  rw [if_pos (show c < 348 by omega), if_pos (show c < 348 by omega)]
  exact ⟨rfl, rfl⟩
theorem pb {c : Nat} (h : c < 64) : pO (348 + c) = 3 ∧ pI (348 + c) = c := by
  unfold pO pI
  rw [if_neg (show ¬ (348 + c < 348) by omega), if_pos (show 348 + c < 412 by omega), if_neg (show ¬ (348 + c < 348) by omega), if_pos (show 348 + c < 412 by omega)]
  omega
theorem pc {c : Nat} (h : c < 400) : pO (412 + c) = 7 ∧ pI (412 + c) = c := by
  unfold pO pI
  rw [if_neg (show ¬ (412 + c < 348) by omega), if_neg (show ¬ (412 + c < 412) by omega), if_pos (show 412 + c < 812 by omega), if_neg (show ¬ (412 + c < 348) by omega), if_neg (show ¬ (412 + c < 412) by omega), if_pos (show 412 + c < 812 by omega)]
  omega
theorem pd0 {c : Nat} (h : c < 12) : pO (812 + 3 * c + 0) = 4 ∧ pI (812 + 3 * c + 0) = c := by
  unfold pO pI
  rw [if_neg (show ¬ (812 + 3 * c + 0 < 348) by omega), if_neg (show ¬ (812 + 3 * c + 0 < 412) by omega), if_neg (show ¬ (812 + 3 * c + 0 < 812) by omega), if_pos (show 812 + 3 * c + 0 < 848 by omega), if_neg (show ¬ (812 + 3 * c + 0 < 348) by omega), if_neg (show ¬ (812 + 3 * c + 0 < 412) by omega), if_neg (show ¬ (812 + 3 * c + 0 < 812) by omega), if_pos (show 812 + 3 * c + 0 < 848 by omega)]
  omega
theorem pd1 {c : Nat} (h : c < 12) : pO (812 + 3 * c + 1) = 5 ∧ pI (812 + 3 * c + 1) = c := by
  unfold pO pI
  rw [if_neg (show ¬ (812 + 3 * c + 1 < 348) by omega), if_neg (show ¬ (812 + 3 * c + 1 < 412) by omega), if_neg (show ¬ (812 + 3 * c + 1 < 812) by omega), if_pos (show 812 + 3 * c + 1 < 848 by omega), if_neg (show ¬ (812 + 3 * c + 1 < 348) by omega), if_neg (show ¬ (812 + 3 * c + 1 < 412) by omega), if_neg (show ¬ (812 + 3 * c + 1 < 812) by omega), if_pos (show 812 + 3 * c + 1 < 848 by omega)]
  omega
theorem pd2 {c : Nat} (h : c < 12) : pO (812 + 3 * c + 2) = 6 ∧ pI (812 + 3 * c + 2) = c := by
  unfold pO pI
  rw [if_neg (show ¬ (812 + 3 * c + 2 < 348) by omega), if_neg (show ¬ (812 + 3 * c + 2 < 412) by omega), if_neg (show ¬ (812 + 3 * c + 2 < 812) by omega), if_pos (show 812 + 3 * c + 2 < 848 by omega), if_neg (show ¬ (812 + 3 * c + 2 < 348) by omega), if_neg (show ¬ (812 + 3 * c + 2 < 412) by omega), if_neg (show ¬ (812 + 3 * c + 2 < 812) by omega), if_pos (show 812 + 3 * c + 2 < 848 by omega)]
  omega
theorem pe0 {c : Nat} (h : c < 16) : pO (859 + 3 * c + 0) = 10 ∧ pI (859 + 3 * c + 0) = c := by
  unfold pO pI
  rw [if_neg (show ¬ (859 + 3 * c + 0 < 348) by omega), if_neg (show ¬ (859 + 3 * c + 0 < 412) by omega), if_neg (show ¬ (859 + 3 * c + 0 < 812) by omega), if_neg (show ¬ (859 + 3 * c + 0 < 848) by omega), if_neg (show ¬ (859 + 3 * c + 0 < 859) by omega), if_pos (show 859 + 3 * c + 0 < 907 by omega), if_neg (show ¬ (859 + 3 * c + 0 < 348) by omega), if_neg (show ¬ (859 + 3 * c + 0 < 412) by omega), if_neg (show ¬ (859 + 3 * c + 0 < 812) by omega), if_neg (show ¬ (859 + 3 * c + 0 < 848) by omega), if_neg (show ¬ (859 + 3 * c + 0 < 859) by omega), if_pos (show 859 + 3 * c + 0 < 907 by omega)]
  omega
theorem pe1 {c : Nat} (h : c < 16) : pO (859 + 3 * c + 1) = 11 ∧ pI (859 + 3 * c + 1) = c := by
  unfold pO pI
  rw [if_neg (show ¬ (859 + 3 * c + 1 < 348) by omega), if_neg (show ¬ (859 + 3 * c + 1 < 412) by omega), if_neg (show ¬ (859 + 3 * c + 1 < 812) by omega), if_neg (show ¬ (859 + 3 * c + 1 < 848) by omega), if_neg (show ¬ (859 + 3 * c + 1 < 859) by omega), if_pos (show 859 + 3 * c + 1 < 907 by omega), if_neg (show ¬ (859 + 3 * c + 1 < 348) by omega), if_neg (show ¬ (859 + 3 * c + 1 < 412) by omega), if_neg (show ¬ (859 + 3 * c + 1 < 812) by omega), if_neg (show ¬ (859 + 3 * c + 1 < 848) by omega), if_neg (show ¬ (859 + 3 * c + 1 < 859) by omega), if_pos (show 859 + 3 * c + 1 < 907 by omega)]
  omega
theorem pe2 {c : Nat} (h : c < 16) : pO (859 + 3 * c + 2) = 12 ∧ pI (859 + 3 * c + 2) = c := by
  unfold pO pI
  rw [if_neg (show ¬ (859 + 3 * c + 2 < 348) by omega), if_neg (show ¬ (859 + 3 * c + 2 < 412) by omega), if_neg (show ¬ (859 + 3 * c + 2 < 812) by omega), if_neg (show ¬ (859 + 3 * c + 2 < 848) by omega), if_neg (show ¬ (859 + 3 * c + 2 < 859) by omega), if_pos (show 859 + 3 * c + 2 < 907 by omega), if_neg (show ¬ (859 + 3 * c + 2 < 348) by omega), if_neg (show ¬ (859 + 3 * c + 2 < 412) by omega), if_neg (show ¬ (859 + 3 * c + 2 < 812) by omega), if_neg (show ¬ (859 + 3 * c + 2 < 848) by omega), if_neg (show ¬ (859 + 3 * c + 2 < 859) by omega), if_pos (show 859 + 3 * c + 2 < 907 by omega)]
  omega
theorem pf0 {c : Nat} (h : c < 400) : pO (907 + 2 * c + 0) = 13 ∧ pI (907 + 2 * c + 0) = c := by
  unfold pO pI
  rw [if_neg (show ¬ (907 + 2 * c + 0 < 348) by omega), if_neg (show ¬ (907 + 2 * c + 0 < 412) by omega), if_neg (show ¬ (907 + 2 * c + 0 < 812) by omega), if_neg (show ¬ (907 + 2 * c + 0 < 848) by omega), if_neg (show ¬ (907 + 2 * c + 0 < 859) by omega), if_neg (show ¬ (907 + 2 * c + 0 < 907) by omega), if_neg (show ¬ (907 + 2 * c + 0 < 348) by omega), if_neg (show ¬ (907 + 2 * c + 0 < 412) by omega), if_neg (show ¬ (907 + 2 * c + 0 < 812) by omega), if_neg (show ¬ (907 + 2 * c + 0 < 848) by omega), if_neg (show ¬ (907 + 2 * c + 0 < 859) by omega), if_neg (show ¬ (907 + 2 * c + 0 < 907) by omega)]
  omega
theorem pf1 {c : Nat} (h : c < 400) : pO (907 + 2 * c + 1) = 14 ∧ pI (907 + 2 * c + 1) = c := by
  unfold pO pI
  rw [if_neg (show ¬ (907 + 2 * c + 1 < 348) by omega), if_neg (show ¬ (907 + 2 * c + 1 < 412) by omega), if_neg (show ¬ (907 + 2 * c + 1 < 812) by omega), if_neg (show ¬ (907 + 2 * c + 1 < 848) by omega), if_neg (show ¬ (907 + 2 * c + 1 < 859) by omega), if_neg (show ¬ (907 + 2 * c + 1 < 907) by omega), if_neg (show ¬ (907 + 2 * c + 1 < 348) by omega), if_neg (show ¬ (907 + 2 * c + 1 < 412) by omega), if_neg (show ¬ (907 + 2 * c + 1 < 812) by omega), if_neg (show ¬ (907 + 2 * c + 1 < 848) by omega), if_neg (show ¬ (907 + 2 * c + 1 < 859) by omega), if_neg (show ¬ (907 + 2 * c + 1 < 907) by omega)]
  omega
theorem pg0 : pO 848 = 0 ∧ pI 848 = 4 := by decide
theorem pg1 : pO 849 = 0 ∧ pI 849 = 5 := by decide
theorem pg2 : pO 850 = 0 ∧ pI 850 = 6 := by decide
theorem pg3 : pO 851 = 0 ∧ pI 851 = 8 := by decide
theorem pg4 : pO 852 = 0 ∧ pI 852 = 12 := by decide
theorem pg5 : pO 853 = 0 ∧ pI 853 = 13 := by decide
theorem pg6 : pO 854 = 0 ∧ pI 854 = 14 := by decide
theorem pg7 : pO 855 = 0 ∧ pI 855 = 15 := by decide
theorem pg8 : pO 856 = 0 ∧ pI 856 = 16 := by decide
theorem pg9 : pO 857 = 0 ∧ pI 857 = 17 := by decide
theorem pg10 : pO 858 = 0 ∧ pI 858 = 26 := by decide
theorem pO_22 (n : Nat) : pO n ≠ 22 := by
  unfold pO
  repeat' split
  all_goals omega
theorem fI_ne (j : Nat) : fI j ≠ 46 ∧ fI j ≠ 48 := by
  unfold fI
  split <;> decide
theorem pI_ne {n : Nat} (h : pO n = 0) : pI n ≠ 46 ∧ pI n ≠ 48 := by
  have h1 : 848 ≤ n ∧ n < 859 := by
    unfold pO at h
    by_cases a : n < 348
    · rw [if_pos a] at h; omega
    rw [if_neg a] at h
    by_cases a : n < 412
    · rw [if_pos a] at h; omega
    rw [if_neg a] at h
    by_cases a : n < 812
    · rw [if_pos a] at h; omega
    rw [if_neg a] at h
    by_cases a : n < 848
    · rw [if_pos a] at h; omega
    rw [if_neg a] at h
    by_cases a : n < 859
    · omega
    rw [if_neg a] at h
    by_cases a : n < 907
    · rw [if_pos a] at h; omega
    rw [if_neg a] at h
    omega
  unfold pI
  rw [if_neg (show ¬ n < 348 by omega), if_neg (show ¬ n < 412 by omega), if_neg (show ¬ n < 812 by omega), if_neg (show ¬ n < 848 by omega), if_pos (show n < 859 by omega)]
  exact fI_ne _
theorem im46 {t : Bool} {S : SS} : ∀ {n : Nat}, imK t S n 0 46 = S 0 46 := by
  intro n
  show up2 (imgF t S n) 0 48 (nI n) 0 46 = _
  rw [up2_ap, if_neg (by omega)]
  induction n with
  | zero => rfl
  | succ n ih =>
    show stI t (imgF t S n) n 0 46 = _
    unfold stI
    cases t with
    | true => show up2 (imgF true S n) 22 n _ 0 46 = _; rw [up2_ap, if_neg (by omega)]; exact ih
    | false =>
      show up2 (imgF false S n) (pO n) (pI n) _ 0 46 = _
      rw [up2_ap, if_neg (fun q => (pI_ne q.1.symm).1 q.2.symm)]
      exact ih
theorem im_step {t : Bool} {S : SS} {n o i : Nat} (h : pO n = o ∧ pI n = i) : up2 (up2 (bif t then up2 (imK t S n) 22 n (imK t S n o i) else imK t S n) 0 48 (nI (n + 1))) o i (bif t then imK t S n o i else imK t S n 22 n) = imK t S (n + 1) := by
  obtain ⟨rfl, rfl⟩ := h
  have h22 := pO_22 n
  have h48 : ¬ (pO n = 0 ∧ pI n = 48) := fun q => (pI_ne q.1).2 q.2
  have e1 : imK t S n (pO n) (pI n) = imgF t S n (pO n) (pI n) := by
    unfold imK
    rw [up2_ap, if_neg h48]
  have e2 : imK t S n 22 n = imgF t S n 22 n := by
    unfold imK
    rw [up2_ap, if_neg (by omega)]
  rw [e1, e2]
  unfold imK
  rw [show imgF t S (n + 1) = stI t (imgF t S n) n from rfl]
  unfold stI
  generalize imgF t S n = I
  cases t with
  | true =>
    show up2 (up2 (up2 (up2 I 0 48 _) 22 n _) 0 48 _) _ _ _ = up2 (up2 I 22 n _) 0 48 _
    rw [up2_cm (S := I) (Or.inl (by decide)), up2_2]
    have e3 : up2 (up2 I 22 n (I (pO n) (pI n))) 0 48 (nI (n + 1)) (pO n) (pI n) = I (pO n) (pI n) := by
      rw [up2_ap, if_neg h48, up2_ap, if_neg (by omega)]
    have e4 := up2_sf (S := up2 (up2 I 22 n (I (pO n) (pI n))) 0 48 (nI (n + 1))) (o := pO n) (j := pI n)
    rw [e3] at e4
    exact e4
  | false =>
    show up2 (up2 (up2 I 0 48 _) 0 48 _) _ _ _ = up2 (up2 I _ _ _) 0 48 _
    rw [up2_2, up2_cm (by omega)]
    rfl
theorem k_kept : CtS mX3_kept 1 (mW1 (fun (a : Nat × Bool) x S => S 0 48 = nI a.1 ∧ a.1 < 1800 ∧ S 0 46 = bI a.2) (fun (a : Nat × Bool) x S v S' => v = (bif a.2 then x else S 22 a.1) ∧ S' = up2 (bif a.2 then up2 S 22 a.1 x else S) 0 48 (nI (a.1 + 1)))) := by
  intro l G d hd as h z Q hs
  match as, hs with
  | [.ref b, .int x], hs =>
    obtain ⟨S, a, hm, hp, hs⟩ := hs
    replace hp : S 0 48 = nI a.1 ∧ a.1 < 1800 ∧ S 0 46 = bI a.2 := hp
    replace hs : ∀ v S' h', (v = (bif a.2 then x else S 22 a.1) ∧ S' = up2 (bif a.2 then up2 S 22 a.1 x else S) 0 48 (nI (a.1 + 1))) → IsMod G b S' h' → FrM b h h' → Q (some (.int v)) h' := hs
    have hf : FrM b h h := FrM.rf
    refine Ct.of rfl (Nat.le_of_ble_eq_true rfl) rfl ?_
    obtain ⟨k, t⟩ := a
    dsimp only at hp hs
    obtain ⟨hk, hlt, ht⟩ := hp
    refine X.w wkX3_kept fnil [] 20 rfl ?_
    refine gF (by first | assumption | exact hm.obj | exact hm.arr _ rfl) ?_
    refine pF0 (okV_W rfl) (by first | assumption | exact hm.obj | exact hm.arr _ rfl) (Nat.le_of_ble_eq_true rfl) (by first | exact hm.N | exact hm.No _) ?_
    intro h7 e7
    have hm := hm.u0 e7 rfl; have hf := hf.u0 e7
    replace hm : IsMod G b (up2 S 0 48 (S 0 48 + 1)) h7 := hm
    rw [hk, nI_1] at hm
    refine gF (by first | assumption | exact hm.obj | exact hm.arr _ rfl) ?_
    refine And.intro (fun b14 => ?_) (fun b14 => ?_)
    · simp only [cP, cN, bI_0, Bool.not_eq_false, lt_nle, Decidable.not_not] at b14
      have ht2 : t = true := by cases t with | true => rfl | false => exact absurd ht b14
      refine gF (by first | assumption | exact hm.obj | exact hm.arr _ rfl) ?_
      refine gF (by first | assumption | exact hm.obj | exact hm.arr _ rfl) ?_
      refine sA (by first | assumption | exact hm.obj | exact hm.arr _ rfl) (ixE (nI_pred k) hlt (by decide)) (by first | exact hm.N | exact hm.No _) ?_
      intro h40 e40
      have hm := hm.uA e40 rfl; have hf := hf.uA e40 (by decide)
      rw [up2_cm (Or.inl (by decide))] at hm
      exact And.intro (hs _ _ _ ⟨by rw [ht2]; rfl, by rw [ht2]; rfl⟩ hm hf) rfl
    · simp only [cP, cN, bI_0, Bool.not_eq_false, lt_nle, Decidable.not_not] at b14
      have ht2 : t = false := by cases t with | false => rfl | true => exact absurd (ht.symm.trans b14) (by decide)
      refine gF (by first | assumption | exact hm.obj | exact hm.arr _ rfl) ?_
      refine gF (by first | assumption | exact hm.obj | exact hm.arr _ rfl) ?_
      refine gA (by first | assumption | exact hm.obj | exact hm.arr _ rfl) (ixE (nI_pred k) hlt (by decide)) ?_
      exact And.intro (hs _ _ _ ⟨by rw [ht2]; rfl, by rw [ht2]; rfl⟩ hm hf) rfl
theorem k_keepsLaw : CtS mX3_keepsLaw 2 (mV0 (fun (a : SS × Bool) S => S = imK a.2 a.1 858 ∧ a.1 0 46 = bI a.2) (fun (a : SS × Bool) S S' => S' = imK a.2 a.1 1707)) := by
  intro l G d hd as h z Q hs
  match as, hs with
  | [.ref b], hs =>
    obtain ⟨S, a, hm, hp, hs⟩ := hs
    replace hp : S = imK a.2 a.1 858 ∧ a.1 0 46 = bI a.2 := hp
    replace hs : ∀ S' h', (S' = imK a.2 a.1 1707) → IsMod G b S' h' → FrM b h h' → Q none h' := hs
    have hf : FrM b h h := FrM.rf
    refine Ct.of rfl (Nat.le_of_ble_eq_true rfl) rfl ?_
    obtain ⟨S0, t⟩ := a
    dsimp only at hp hs
    obtain ⟨rfl, ht⟩ := hp
    have loop2 : ∀ (n c : Nat) (i : Int32) (h1 : AH), c + n = 400 → i = nI c → IsMod G b (imK t S0 (907 + 2 * c)) h1 → FrM b h h1 → X l G mX3_keepsLaw (rmK d 0 0) (TGm G (fun v h' z' => Q v h' ∧ z' = z) 0 0) 0 0 76 [(0, .ref b), (1, .int i)] [] h1 z := by
      intro n
      induction n using Nat.strongRecOn with
      | _ n ih =>
      intro c i h1 hc hi hm hf
      subst hi
      refine X.w wkX3_keepsLaw (fcons (ceV k_kept mmW1 ckX3_326 rfl mrW1 (by omega) rfl) fnil) [76] 27 rfl ?_
      refine And.intro (fun b80 => ?_) (fun b80 => ?_)
      · simp only [cP, cN, bI_0, Bool.not_eq_false, lt_nle, Decidable.not_not] at b80
        have hc2 : 400 ≤ c := (le64 (by omega) (by omega)).mp b80
        obtain rfl : c = 400 := by omega
        exact And.intro (hs _ _ rfl hm hf) rfl
      · simp only [cP, cN, bI_0, Bool.not_eq_false, lt_nle, Decidable.not_not] at b80
        have hc2 : c < 400 := nle64 b80 (by omega) (by omega)
        refine gF (by first | assumption | exact hm.obj | exact hm.arr _ rfl) ?_
        refine gF (by first | assumption | exact hm.obj | exact hm.arr _ rfl) ?_
        refine gA (by first | assumption | exact hm.obj | exact hm.arr _ rfl) (by first | exact ixN (by omega) (by decide) | exact ixz (by omega) (by decide) | exact ixa (a := 64) rfl (by omega) (by decide) | exact ixa (a := 128) rfl (by omega) (by decide) | exact ixa (a := 192) rfl (by omega) (by decide) | exact ixa (a := 256) rfl (by omega) (by decide) | exact ixa (a := 262) rfl (by omega) (by decide) | exact ixa (a := 268) rfl (by omega) (by decide) | exact ixa (a := 274) rfl (by omega) (by decide) | exact ixa (a := 348) rfl (by omega) (by decide) | exact ixa (a := 400) rfl (by omega) (by decide)) ?_
        refine Exists.intro _ (Exists.intro (907 + 2 * c, t) (And.intro hm (And.intro ⟨rfl, by show 907 + 2 * c < 1800; omega, im46.trans ht⟩ ?_)))
        intro v95 S95 h95 p95 hm hf95
        have hf := hf.tr hf95
        (try dsimp only at p95)
        obtain ⟨rfl, rfl⟩ := p95
        refine sA (by first | assumption | exact hm.obj | exact hm.arr _ rfl) (by first | exact ixN (by omega) (by decide) | exact ixz (by omega) (by decide) | exact ixa (a := 64) rfl (by omega) (by decide) | exact ixa (a := 128) rfl (by omega) (by decide) | exact ixa (a := 192) rfl (by omega) (by decide) | exact ixa (a := 256) rfl (by omega) (by decide) | exact ixa (a := 262) rfl (by omega) (by decide) | exact ixa (a := 268) rfl (by omega) (by decide) | exact ixa (a := 274) rfl (by omega) (by decide) | exact ixa (a := 348) rfl (by omega) (by decide) | exact ixa (a := 400) rfl (by omega) (by decide)) (by first | exact hm.N | exact hm.No _) ?_
        intro h98 e98
        have hm := hm.uA e98 rfl; have hf := hf.uA e98 (by decide)
        rw [im_step (by exact pf0 hc2)] at hm
        refine gF (by first | assumption | exact hm.obj | exact hm.arr _ rfl) ?_
        refine gF (by first | assumption | exact hm.obj | exact hm.arr _ rfl) ?_
        refine gA (by first | assumption | exact hm.obj | exact hm.arr _ rfl) (by first | exact ixN (by omega) (by decide) | exact ixz (by omega) (by decide) | exact ixa (a := 64) rfl (by omega) (by decide) | exact ixa (a := 128) rfl (by omega) (by decide) | exact ixa (a := 192) rfl (by omega) (by decide) | exact ixa (a := 256) rfl (by omega) (by decide) | exact ixa (a := 262) rfl (by omega) (by decide) | exact ixa (a := 268) rfl (by omega) (by decide) | exact ixa (a := 274) rfl (by omega) (by decide) | exact ixa (a := 348) rfl (by omega) (by decide) | exact ixa (a := 400) rfl (by omega) (by decide)) ?_
        refine Exists.intro _ (Exists.intro (907 + 2 * c + 1, t) (And.intro hm (And.intro ⟨rfl, by show 907 + 2 * c + 1 < 1800; omega, im46.trans ht⟩ ?_)))
        intro v111 S111 h111 p111 hm hf111
        have hf := hf.tr hf111
        (try dsimp only at p111)
        obtain ⟨rfl, rfl⟩ := p111
        refine sA (by first | assumption | exact hm.obj | exact hm.arr _ rfl) (by first | exact ixN (by omega) (by decide) | exact ixz (by omega) (by decide) | exact ixa (a := 64) rfl (by omega) (by decide) | exact ixa (a := 128) rfl (by omega) (by decide) | exact ixa (a := 192) rfl (by omega) (by decide) | exact ixa (a := 256) rfl (by omega) (by decide) | exact ixa (a := 262) rfl (by omega) (by decide) | exact ixa (a := 268) rfl (by omega) (by decide) | exact ixa (a := 274) rfl (by omega) (by decide) | exact ixa (a := 348) rfl (by omega) (by decide) | exact ixa (a := 400) rfl (by omega) (by decide)) (by first | exact hm.N | exact hm.No _) ?_
        intro h114 e114
        have hm := hm.uA e114 rfl; have hf := hf.uA e114 (by decide)
        rw [im_step (by exact pf1 hc2)] at hm
        exact ih (n - 1) (by omega) (c + 1) _ _ (by omega) (nI_1 c) hm hf
    have loop1 : ∀ (n c : Nat) (i : Int32) (h1 : AH), c + n = 16 → i = nI c → IsMod G b (imK t S0 (859 + 3 * c)) h1 → FrM b h h1 → X l G mX3_keepsLaw (rmK d 0 0) (TGm G (fun v h' z' => Q v h' ∧ z' = z) 0 0) 0 0 14 [(0, .ref b), (1, .int i)] [] h1 z := by
      intro n
      induction n using Nat.strongRecOn with
      | _ n ih =>
      intro c i h1 hc hi hm hf
      subst hi
      refine X.w wkX3_keepsLaw (fcons (ceV k_kept mmW1 ckX3_326 rfl mrW1 (by omega) rfl) fnil) [14, 76] 37 rfl ?_
      refine And.intro (fun b17 => ?_) (fun b17 => ?_)
      · simp only [cP, cN, bI_0, Bool.not_eq_false, lt_nle, Decidable.not_not] at b17
        have hc2 : 16 ≤ c := (le64 (by omega) (by omega)).mp b17
        obtain rfl : c = 16 := by omega
        exact loop2 400 0 _ _ rfl rfl hm hf
      · simp only [cP, cN, bI_0, Bool.not_eq_false, lt_nle, Decidable.not_not] at b17
        have hc2 : c < 16 := nle64 b17 (by omega) (by omega)
        refine gF (by first | assumption | exact hm.obj | exact hm.arr _ rfl) ?_
        refine gF (by first | assumption | exact hm.obj | exact hm.arr _ rfl) ?_
        refine gA (by first | assumption | exact hm.obj | exact hm.arr _ rfl) (by first | exact ixN (by omega) (by decide) | exact ixz (by omega) (by decide) | exact ixa (a := 64) rfl (by omega) (by decide) | exact ixa (a := 128) rfl (by omega) (by decide) | exact ixa (a := 192) rfl (by omega) (by decide) | exact ixa (a := 256) rfl (by omega) (by decide) | exact ixa (a := 262) rfl (by omega) (by decide) | exact ixa (a := 268) rfl (by omega) (by decide) | exact ixa (a := 274) rfl (by omega) (by decide) | exact ixa (a := 348) rfl (by omega) (by decide) | exact ixa (a := 400) rfl (by omega) (by decide)) ?_
        refine Exists.intro _ (Exists.intro (859 + 3 * c, t) (And.intro hm (And.intro ⟨rfl, by show 859 + 3 * c < 1800; omega, im46.trans ht⟩ ?_)))
        intro v32 S32 h32 p32 hm hf32
        have hf := hf.tr hf32
        (try dsimp only at p32)
        obtain ⟨rfl, rfl⟩ := p32
        refine sA (by first | assumption | exact hm.obj | exact hm.arr _ rfl) (by first | exact ixN (by omega) (by decide) | exact ixz (by omega) (by decide) | exact ixa (a := 64) rfl (by omega) (by decide) | exact ixa (a := 128) rfl (by omega) (by decide) | exact ixa (a := 192) rfl (by omega) (by decide) | exact ixa (a := 256) rfl (by omega) (by decide) | exact ixa (a := 262) rfl (by omega) (by decide) | exact ixa (a := 268) rfl (by omega) (by decide) | exact ixa (a := 274) rfl (by omega) (by decide) | exact ixa (a := 348) rfl (by omega) (by decide) | exact ixa (a := 400) rfl (by omega) (by decide)) (by first | exact hm.N | exact hm.No _) ?_
        intro h35 e35
        have hm := hm.uA e35 rfl; have hf := hf.uA e35 (by decide)
        rw [im_step (by exact pe0 hc2)] at hm
        refine gF (by first | assumption | exact hm.obj | exact hm.arr _ rfl) ?_
        refine gF (by first | assumption | exact hm.obj | exact hm.arr _ rfl) ?_
        refine gA (by first | assumption | exact hm.obj | exact hm.arr _ rfl) (by first | exact ixN (by omega) (by decide) | exact ixz (by omega) (by decide) | exact ixa (a := 64) rfl (by omega) (by decide) | exact ixa (a := 128) rfl (by omega) (by decide) | exact ixa (a := 192) rfl (by omega) (by decide) | exact ixa (a := 256) rfl (by omega) (by decide) | exact ixa (a := 262) rfl (by omega) (by decide) | exact ixa (a := 268) rfl (by omega) (by decide) | exact ixa (a := 274) rfl (by omega) (by decide) | exact ixa (a := 348) rfl (by omega) (by decide) | exact ixa (a := 400) rfl (by omega) (by decide)) ?_
        refine Exists.intro _ (Exists.intro (859 + 3 * c + 1, t) (And.intro hm (And.intro ⟨rfl, by show 859 + 3 * c + 1 < 1800; omega, im46.trans ht⟩ ?_)))
        intro v48 S48 h48 p48 hm hf48
        have hf := hf.tr hf48
        (try dsimp only at p48)
        obtain ⟨rfl, rfl⟩ := p48
        refine sA (by first | assumption | exact hm.obj | exact hm.arr _ rfl) (by first | exact ixN (by omega) (by decide) | exact ixz (by omega) (by decide) | exact ixa (a := 64) rfl (by omega) (by decide) | exact ixa (a := 128) rfl (by omega) (by decide) | exact ixa (a := 192) rfl (by omega) (by decide) | exact ixa (a := 256) rfl (by omega) (by decide) | exact ixa (a := 262) rfl (by omega) (by decide) | exact ixa (a := 268) rfl (by omega) (by decide) | exact ixa (a := 274) rfl (by omega) (by decide) | exact ixa (a := 348) rfl (by omega) (by decide) | exact ixa (a := 400) rfl (by omega) (by decide)) (by first | exact hm.N | exact hm.No _) ?_
        intro h51 e51
        have hm := hm.uA e51 rfl; have hf := hf.uA e51 (by decide)
        rw [im_step (by exact pe1 hc2)] at hm
        refine gF (by first | assumption | exact hm.obj | exact hm.arr _ rfl) ?_
        refine gF (by first | assumption | exact hm.obj | exact hm.arr _ rfl) ?_
        refine gA (by first | assumption | exact hm.obj | exact hm.arr _ rfl) (by first | exact ixN (by omega) (by decide) | exact ixz (by omega) (by decide) | exact ixa (a := 64) rfl (by omega) (by decide) | exact ixa (a := 128) rfl (by omega) (by decide) | exact ixa (a := 192) rfl (by omega) (by decide) | exact ixa (a := 256) rfl (by omega) (by decide) | exact ixa (a := 262) rfl (by omega) (by decide) | exact ixa (a := 268) rfl (by omega) (by decide) | exact ixa (a := 274) rfl (by omega) (by decide) | exact ixa (a := 348) rfl (by omega) (by decide) | exact ixa (a := 400) rfl (by omega) (by decide)) ?_
        refine Exists.intro _ (Exists.intro (859 + 3 * c + 2, t) (And.intro hm (And.intro ⟨rfl, by show 859 + 3 * c + 2 < 1800; omega, im46.trans ht⟩ ?_)))
        intro v64 S64 h64 p64 hm hf64
        have hf := hf.tr hf64
        (try dsimp only at p64)
        obtain ⟨rfl, rfl⟩ := p64
        refine sA (by first | assumption | exact hm.obj | exact hm.arr _ rfl) (by first | exact ixN (by omega) (by decide) | exact ixz (by omega) (by decide) | exact ixa (a := 64) rfl (by omega) (by decide) | exact ixa (a := 128) rfl (by omega) (by decide) | exact ixa (a := 192) rfl (by omega) (by decide) | exact ixa (a := 256) rfl (by omega) (by decide) | exact ixa (a := 262) rfl (by omega) (by decide) | exact ixa (a := 268) rfl (by omega) (by decide) | exact ixa (a := 274) rfl (by omega) (by decide) | exact ixa (a := 348) rfl (by omega) (by decide) | exact ixa (a := 400) rfl (by omega) (by decide)) (by first | exact hm.N | exact hm.No _) ?_
        intro h67 e67
        have hm := hm.uA e67 rfl; have hf := hf.uA e67 (by decide)
        rw [im_step (by exact pe2 hc2)] at hm
        exact ih (n - 1) (by omega) (c + 1) _ _ (by omega) (nI_1 c) hm hf
    refine X.w wkX3_keepsLaw (fcons (ceV k_kept mmW1 ckX3_326 rfl mrW1 (by omega) rfl) fnil) [14] 10 rfl ?_
    refine gF (by first | assumption | exact hm.obj | exact hm.arr _ rfl) ?_
    refine Exists.intro _ (Exists.intro (858, t) (And.intro hm (And.intro ⟨rfl, by show 858 < 1800; omega, im46.trans ht⟩ ?_)))
    intro v6 S6 h6 p6 hm hf6
    have hf := hf.tr hf6
    (try dsimp only at p6)
    obtain ⟨rfl, rfl⟩ := p6
    refine pF0 (okV_W rfl) (by first | assumption | exact hm.obj | exact hm.arr _ rfl) (Nat.le_of_ble_eq_true rfl) (by first | exact hm.N | exact hm.No _) ?_
    intro h9 e9
    have hm := hm.u0 e9 rfl; have hf := hf.u0 e9
    rw [im_step (pg10)] at hm
    exact loop1 16 0 _ _ rfl rfl hm hf
def im0 (S : SS) (t : Bool) : SS := up2 (up2 (up2 (tl S) 0 46 (bI t)) 0 47 1) 0 48 0
def imF (S : SS) (t : Bool) : SS := bif t then imK t (im0 S t) 1707 else up2 (imK t (im0 S t) 1707) 0 3 0
theorem k_image : CtS mX3_image 3 (mW1 (fun (a : Bool × Bool) x S => x = bI a.1 ∧ S 0 47 = bI a.2) (fun (a : Bool × Bool) x S v S' => ((a.1 || a.2) = true ∧ v = 1 ∧ S' = imF S a.1) ∨ ((a.1 || a.2) = false ∧ v = 0 ∧ S' = tl S))) := by
  intro l G d hd as h z Q hs
  match as, hs with
  | [.ref b, .int x], hs =>
    obtain ⟨S, a, hm, hp, hs⟩ := hs
    replace hp : x = bI a.1 ∧ S 0 47 = bI a.2 := hp
    replace hs : ∀ v S' h', (((a.1 || a.2) = true ∧ v = 1 ∧ S' = imF S a.1) ∨ ((a.1 || a.2) = false ∧ v = 0 ∧ S' = tl S)) → IsMod G b S' h' → FrM b h h' → Q (some (.int v)) h' := hs
    have hf : FrM b h h := FrM.rf
    refine Ct.of rfl (Nat.le_of_ble_eq_true rfl) rfl ?_
    obtain ⟨t, ib⟩ := a
    dsimp only at hp hs
    obtain ⟨rfl, hib⟩ := hp
    have main : (t || ib) = true → ∀ (S0 : SS), S0 0 46 = bI t → (∀ h', IsMod G b (bif t then imK t S0 1707 else up2 (imK t S0 1707) 0 3 0) h' → FrM b h h' → Q (some (.int 1)) h') → ∀ (h0 : AH), IsMod G b (imK t S0 0) h0 → FrM b h h0 → X l G mX3_image (rmK d 0 0) (TGm G (fun v h' z' => Q v h' ∧ z' = z) 0 0) 0 0 35 [(0, .ref b), (1, .int (bI t)), (2, .int 0)] [] h0 z := by
      intro htb S0 ht hs
      clear hm hf
      have j187 : ∀ (i : Int32) (h1 : AH), IsMod G b (imK t S0 848) h1 → FrM b h h1 → X l G mX3_image (rmK d 0 0) (TGm G (fun v h' z' => Q v h' ∧ z' = z) 0 0) 0 0 187 [(0, .ref b), (1, .int (bI t)), (2, .int i)] [] h1 z := by
        intro i h1 hm hf
        refine X.w wkX3_image (fcons (ceV k_keepsLaw mmV0 ckX3_332 rfl mrV0 (by omega) rfl) (fcons (ceV k_kept mmW1 ckX3_326 rfl mrW1 (by omega) rfl) fnil)) [] 70 rfl ?_
        refine gF (by first | assumption | exact hm.obj | exact hm.arr _ rfl) ?_
        refine Exists.intro _ (Exists.intro (848, t) (And.intro hm (And.intro ⟨rfl, by show 848 < 1800; omega, im46.trans ht⟩ ?_)))
        intro v193 S193 h193 p193 hm hf193
        have hf := hf.tr hf193
        (try dsimp only at p193)
        obtain ⟨rfl, rfl⟩ := p193
        refine pF0 (okV_W rfl) (by first | assumption | exact hm.obj | exact hm.arr _ rfl) (Nat.le_of_ble_eq_true rfl) (by first | exact hm.N | exact hm.No _) ?_
        intro h196 e196
        have hm := hm.u0 e196 rfl; have hf := hf.u0 e196
        rw [im_step (pg0)] at hm
        refine gF (by first | assumption | exact hm.obj | exact hm.arr _ rfl) ?_
        refine Exists.intro _ (Exists.intro (849, t) (And.intro hm (And.intro ⟨rfl, by show 849 < 1800; omega, im46.trans ht⟩ ?_)))
        intro v205 S205 h205 p205 hm hf205
        have hf := hf.tr hf205
        (try dsimp only at p205)
        obtain ⟨rfl, rfl⟩ := p205
        refine pF0 (okV_W rfl) (by first | assumption | exact hm.obj | exact hm.arr _ rfl) (Nat.le_of_ble_eq_true rfl) (by first | exact hm.N | exact hm.No _) ?_
        intro h208 e208
        have hm := hm.u0 e208 rfl; have hf := hf.u0 e208
        rw [im_step (pg1)] at hm
        refine gF (by first | assumption | exact hm.obj | exact hm.arr _ rfl) ?_
        refine Exists.intro _ (Exists.intro (850, t) (And.intro hm (And.intro ⟨rfl, by show 850 < 1800; omega, im46.trans ht⟩ ?_)))
        intro v217 S217 h217 p217 hm hf217
        have hf := hf.tr hf217
        (try dsimp only at p217)
        obtain ⟨rfl, rfl⟩ := p217
        refine pF0 (okV_W rfl) (by first | assumption | exact hm.obj | exact hm.arr _ rfl) (Nat.le_of_ble_eq_true rfl) (by first | exact hm.N | exact hm.No _) ?_
        intro h220 e220
        have hm := hm.u0 e220 rfl; have hf := hf.u0 e220
        rw [im_step (pg2)] at hm
        refine gF (by first | assumption | exact hm.obj | exact hm.arr _ rfl) ?_
        refine Exists.intro _ (Exists.intro (851, t) (And.intro hm (And.intro ⟨rfl, by show 851 < 1800; omega, im46.trans ht⟩ ?_)))
        intro v229 S229 h229 p229 hm hf229
        have hf := hf.tr hf229
        (try dsimp only at p229)
        obtain ⟨rfl, rfl⟩ := p229
        refine pF0 (okV_W rfl) (by first | assumption | exact hm.obj | exact hm.arr _ rfl) (Nat.le_of_ble_eq_true rfl) (by first | exact hm.N | exact hm.No _) ?_
        intro h232 e232
        have hm := hm.u0 e232 rfl; have hf := hf.u0 e232
        rw [im_step (pg3)] at hm
        refine gF (by first | assumption | exact hm.obj | exact hm.arr _ rfl) ?_
        refine Exists.intro _ (Exists.intro (852, t) (And.intro hm (And.intro ⟨rfl, by show 852 < 1800; omega, im46.trans ht⟩ ?_)))
        intro v241 S241 h241 p241 hm hf241
        have hf := hf.tr hf241
        (try dsimp only at p241)
        obtain ⟨rfl, rfl⟩ := p241
        refine pF0 (okV_W rfl) (by first | assumption | exact hm.obj | exact hm.arr _ rfl) (Nat.le_of_ble_eq_true rfl) (by first | exact hm.N | exact hm.No _) ?_
        intro h244 e244
        have hm := hm.u0 e244 rfl; have hf := hf.u0 e244
        rw [im_step (pg4)] at hm
        refine gF (by first | assumption | exact hm.obj | exact hm.arr _ rfl) ?_
        refine Exists.intro _ (Exists.intro (853, t) (And.intro hm (And.intro ⟨rfl, by show 853 < 1800; omega, im46.trans ht⟩ ?_)))
        intro v253 S253 h253 p253 hm hf253
        have hf := hf.tr hf253
        (try dsimp only at p253)
        obtain ⟨rfl, rfl⟩ := p253
        refine pF0 (okV_W rfl) (by first | assumption | exact hm.obj | exact hm.arr _ rfl) (Nat.le_of_ble_eq_true rfl) (by first | exact hm.N | exact hm.No _) ?_
        intro h256 e256
        have hm := hm.u0 e256 rfl; have hf := hf.u0 e256
        rw [im_step (pg5)] at hm
        refine gF (by first | assumption | exact hm.obj | exact hm.arr _ rfl) ?_
        refine Exists.intro _ (Exists.intro (854, t) (And.intro hm (And.intro ⟨rfl, by show 854 < 1800; omega, im46.trans ht⟩ ?_)))
        intro v265 S265 h265 p265 hm hf265
        have hf := hf.tr hf265
        (try dsimp only at p265)
        obtain ⟨rfl, rfl⟩ := p265
        refine pF0 (okV_W rfl) (by first | assumption | exact hm.obj | exact hm.arr _ rfl) (Nat.le_of_ble_eq_true rfl) (by first | exact hm.N | exact hm.No _) ?_
        intro h268 e268
        have hm := hm.u0 e268 rfl; have hf := hf.u0 e268
        rw [im_step (pg6)] at hm
        refine gF (by first | assumption | exact hm.obj | exact hm.arr _ rfl) ?_
        refine Exists.intro _ (Exists.intro (855, t) (And.intro hm (And.intro ⟨rfl, by show 855 < 1800; omega, im46.trans ht⟩ ?_)))
        intro v277 S277 h277 p277 hm hf277
        have hf := hf.tr hf277
        (try dsimp only at p277)
        obtain ⟨rfl, rfl⟩ := p277
        refine pF0 (okV_W rfl) (by first | assumption | exact hm.obj | exact hm.arr _ rfl) (Nat.le_of_ble_eq_true rfl) (by first | exact hm.N | exact hm.No _) ?_
        intro h280 e280
        have hm := hm.u0 e280 rfl; have hf := hf.u0 e280
        rw [im_step (pg7)] at hm
        refine gF (by first | assumption | exact hm.obj | exact hm.arr _ rfl) ?_
        refine Exists.intro _ (Exists.intro (856, t) (And.intro hm (And.intro ⟨rfl, by show 856 < 1800; omega, im46.trans ht⟩ ?_)))
        intro v289 S289 h289 p289 hm hf289
        have hf := hf.tr hf289
        (try dsimp only at p289)
        obtain ⟨rfl, rfl⟩ := p289
        refine pF0 (okV_W rfl) (by first | assumption | exact hm.obj | exact hm.arr _ rfl) (Nat.le_of_ble_eq_true rfl) (by first | exact hm.N | exact hm.No _) ?_
        intro h292 e292
        have hm := hm.u0 e292 rfl; have hf := hf.u0 e292
        rw [im_step (pg8)] at hm
        refine gF (by first | assumption | exact hm.obj | exact hm.arr _ rfl) ?_
        refine Exists.intro _ (Exists.intro (857, t) (And.intro hm (And.intro ⟨rfl, by show 857 < 1800; omega, im46.trans ht⟩ ?_)))
        intro v301 S301 h301 p301 hm hf301
        have hf := hf.tr hf301
        (try dsimp only at p301)
        obtain ⟨rfl, rfl⟩ := p301
        refine pF0 (okV_W rfl) (by first | assumption | exact hm.obj | exact hm.arr _ rfl) (Nat.le_of_ble_eq_true rfl) (by first | exact hm.N | exact hm.No _) ?_
        intro h304 e304
        have hm := hm.u0 e304 rfl; have hf := hf.u0 e304
        rw [im_step (pg9)] at hm
        refine Exists.intro _ (Exists.intro (S0, t) (And.intro hm (And.intro ⟨rfl, ht⟩ ?_)))
        intro S308 h308 p308 hm hf308
        have hf := hf.tr hf308
        (try dsimp only at p308)
        subst p308
        refine And.intro (fun b312 => ?_) (fun b312 => ?_)
        · simp only [cP, cN, bI_0, Bool.not_eq_false, lt_nle, Decidable.not_not] at b312
          have ht2 : t = true := b312
          refine And.intro (by first | exact Or.inl rfl | exact Or.inr rfl | exact bI_01 _) ?_
          rw [ht2] at hs hm
          exact And.intro (hs _ hm hf) rfl
        · simp only [cP, cN, bI_0, Bool.not_eq_false, lt_nle, Decidable.not_not] at b312
          have ht2 : t = false := b312
          refine pF0 (okV_W rfl) (by first | assumption | exact hm.obj | exact hm.arr _ rfl) (Nat.le_of_ble_eq_true rfl) (by first | exact hm.N | exact hm.No _) ?_
          intro h317 e317
          have hm := hm.u0 e317 rfl; have hf := hf.u0 e317
          refine And.intro (by first | exact Or.inl rfl | exact Or.inr rfl | exact bI_01 _) ?_
          rw [ht2] at hs hm
          exact And.intro (hs _ hm hf) rfl
      have l4 : ∀ (n c : Nat) (i : Int32) (h1 : AH), c + n = 12 → i = nI c → IsMod G b (imK t S0 (812 + 3 * c)) h1 → FrM b h h1 → X l G mX3_image (rmK d 0 0) (TGm G (fun v h' z' => Q v h' ∧ z' = z) 0 0) 0 0 127 [(0, .ref b), (1, .int (bI t)), (2, .int i)] [] h1 z := by
        intro n
        induction n using Nat.strongRecOn with
        | _ n ih =>
        intro c i h1 hc hi hm hf
        subst hi
        refine X.w wkX3_image (fcons (ceV k_keepsLaw mmV0 ckX3_332 rfl mrV0 (by omega) rfl) (fcons (ceV k_kept mmW1 ckX3_326 rfl mrW1 (by omega) rfl) fnil)) [127, 187] 37 rfl ?_
        refine And.intro (fun b130 => ?_) (fun b130 => ?_)
        · simp only [cP, cN, bI_0, Bool.not_eq_false, lt_nle, Decidable.not_not] at b130
          have hc2 : 12 ≤ c := (le64 (by omega) (by omega)).mp b130
          obtain rfl : c = 12 := by omega
          exact j187 _ _ hm hf
        · simp only [cP, cN, bI_0, Bool.not_eq_false, lt_nle, Decidable.not_not] at b130
          have hc2 : c < 12 := nle64 b130 (by omega) (by omega)
          refine gF (by first | assumption | exact hm.obj | exact hm.arr _ rfl) ?_
          refine gF (by first | assumption | exact hm.obj | exact hm.arr _ rfl) ?_
          refine gA (by first | assumption | exact hm.obj | exact hm.arr _ rfl) (by first | exact ixN (by omega) (by decide) | exact ixz (by omega) (by decide) | exact ixa (a := 64) rfl (by omega) (by decide) | exact ixa (a := 128) rfl (by omega) (by decide) | exact ixa (a := 192) rfl (by omega) (by decide) | exact ixa (a := 256) rfl (by omega) (by decide) | exact ixa (a := 262) rfl (by omega) (by decide) | exact ixa (a := 268) rfl (by omega) (by decide) | exact ixa (a := 274) rfl (by omega) (by decide) | exact ixa (a := 348) rfl (by omega) (by decide) | exact ixa (a := 400) rfl (by omega) (by decide)) ?_
          refine Exists.intro _ (Exists.intro (812 + 3 * c, t) (And.intro hm (And.intro ⟨rfl, by show 812 + 3 * c < 1800; omega, im46.trans ht⟩ ?_)))
          intro v145 S145 h145 p145 hm hf145
          have hf := hf.tr hf145
          (try dsimp only at p145)
          obtain ⟨rfl, rfl⟩ := p145
          refine sA (by first | assumption | exact hm.obj | exact hm.arr _ rfl) (by first | exact ixN (by omega) (by decide) | exact ixz (by omega) (by decide) | exact ixa (a := 64) rfl (by omega) (by decide) | exact ixa (a := 128) rfl (by omega) (by decide) | exact ixa (a := 192) rfl (by omega) (by decide) | exact ixa (a := 256) rfl (by omega) (by decide) | exact ixa (a := 262) rfl (by omega) (by decide) | exact ixa (a := 268) rfl (by omega) (by decide) | exact ixa (a := 274) rfl (by omega) (by decide) | exact ixa (a := 348) rfl (by omega) (by decide) | exact ixa (a := 400) rfl (by omega) (by decide)) (by first | exact hm.N | exact hm.No _) ?_
          intro h148 e148
          have hm := hm.uA e148 rfl; have hf := hf.uA e148 (by decide)
          rw [im_step (by exact pd0 hc2)] at hm
          refine gF (by first | assumption | exact hm.obj | exact hm.arr _ rfl) ?_
          refine gF (by first | assumption | exact hm.obj | exact hm.arr _ rfl) ?_
          refine gA (by first | assumption | exact hm.obj | exact hm.arr _ rfl) (by first | exact ixN (by omega) (by decide) | exact ixz (by omega) (by decide) | exact ixa (a := 64) rfl (by omega) (by decide) | exact ixa (a := 128) rfl (by omega) (by decide) | exact ixa (a := 192) rfl (by omega) (by decide) | exact ixa (a := 256) rfl (by omega) (by decide) | exact ixa (a := 262) rfl (by omega) (by decide) | exact ixa (a := 268) rfl (by omega) (by decide) | exact ixa (a := 274) rfl (by omega) (by decide) | exact ixa (a := 348) rfl (by omega) (by decide) | exact ixa (a := 400) rfl (by omega) (by decide)) ?_
          refine Exists.intro _ (Exists.intro (812 + 3 * c + 1, t) (And.intro hm (And.intro ⟨rfl, by show 812 + 3 * c + 1 < 1800; omega, im46.trans ht⟩ ?_)))
          intro v161 S161 h161 p161 hm hf161
          have hf := hf.tr hf161
          (try dsimp only at p161)
          obtain ⟨rfl, rfl⟩ := p161
          refine sA (by first | assumption | exact hm.obj | exact hm.arr _ rfl) (by first | exact ixN (by omega) (by decide) | exact ixz (by omega) (by decide) | exact ixa (a := 64) rfl (by omega) (by decide) | exact ixa (a := 128) rfl (by omega) (by decide) | exact ixa (a := 192) rfl (by omega) (by decide) | exact ixa (a := 256) rfl (by omega) (by decide) | exact ixa (a := 262) rfl (by omega) (by decide) | exact ixa (a := 268) rfl (by omega) (by decide) | exact ixa (a := 274) rfl (by omega) (by decide) | exact ixa (a := 348) rfl (by omega) (by decide) | exact ixa (a := 400) rfl (by omega) (by decide)) (by first | exact hm.N | exact hm.No _) ?_
          intro h164 e164
          have hm := hm.uA e164 rfl; have hf := hf.uA e164 (by decide)
          rw [im_step (by exact pd1 hc2)] at hm
          refine gF (by first | assumption | exact hm.obj | exact hm.arr _ rfl) ?_
          refine gF (by first | assumption | exact hm.obj | exact hm.arr _ rfl) ?_
          refine gA (by first | assumption | exact hm.obj | exact hm.arr _ rfl) (by first | exact ixN (by omega) (by decide) | exact ixz (by omega) (by decide) | exact ixa (a := 64) rfl (by omega) (by decide) | exact ixa (a := 128) rfl (by omega) (by decide) | exact ixa (a := 192) rfl (by omega) (by decide) | exact ixa (a := 256) rfl (by omega) (by decide) | exact ixa (a := 262) rfl (by omega) (by decide) | exact ixa (a := 268) rfl (by omega) (by decide) | exact ixa (a := 274) rfl (by omega) (by decide) | exact ixa (a := 348) rfl (by omega) (by decide) | exact ixa (a := 400) rfl (by omega) (by decide)) ?_
          refine Exists.intro _ (Exists.intro (812 + 3 * c + 2, t) (And.intro hm (And.intro ⟨rfl, by show 812 + 3 * c + 2 < 1800; omega, im46.trans ht⟩ ?_)))
          intro v177 S177 h177 p177 hm hf177
          have hf := hf.tr hf177
          (try dsimp only at p177)
          obtain ⟨rfl, rfl⟩ := p177
          refine sA (by first | assumption | exact hm.obj | exact hm.arr _ rfl) (by first | exact ixN (by omega) (by decide) | exact ixz (by omega) (by decide) | exact ixa (a := 64) rfl (by omega) (by decide) | exact ixa (a := 128) rfl (by omega) (by decide) | exact ixa (a := 192) rfl (by omega) (by decide) | exact ixa (a := 256) rfl (by omega) (by decide) | exact ixa (a := 262) rfl (by omega) (by decide) | exact ixa (a := 268) rfl (by omega) (by decide) | exact ixa (a := 274) rfl (by omega) (by decide) | exact ixa (a := 348) rfl (by omega) (by decide) | exact ixa (a := 400) rfl (by omega) (by decide)) (by first | exact hm.N | exact hm.No _) ?_
          intro h180 e180
          have hm := hm.uA e180 rfl; have hf := hf.uA e180 (by decide)
          rw [im_step (by exact pd2 hc2)] at hm
          exact ih (n - 1) (by omega) (c + 1) _ _ (by omega) (nI_1 c) hm hf
      have l3 : ∀ (n c : Nat) (i : Int32) (h1 : AH), c + n = 400 → i = nI c → IsMod G b (imK t S0 (412 + c)) h1 → FrM b h h1 → X l G mX3_image (rmK d 0 0) (TGm G (fun v h' z' => Q v h' ∧ z' = z) 0 0) 0 0 96 [(0, .ref b), (1, .int (bI t)), (2, .int i)] [] h1 z := by
        intro n
        induction n using Nat.strongRecOn with
        | _ n ih =>
        intro c i h1 hc hi hm hf
        subst hi
        refine X.w wkX3_image (fcons (ceV k_keepsLaw mmV0 ckX3_332 rfl mrV0 (by omega) rfl) (fcons (ceV k_kept mmW1 ckX3_326 rfl mrW1 (by omega) rfl) fnil)) [96, 127] 17 rfl ?_
        refine And.intro (fun b100 => ?_) (fun b100 => ?_)
        · simp only [cP, cN, bI_0, Bool.not_eq_false, lt_nle, Decidable.not_not] at b100
          have hc2 : 400 ≤ c := (le64 (by omega) (by omega)).mp b100
          obtain rfl : c = 400 := by omega
          exact l4 12 0 _ _ rfl rfl hm hf
        · simp only [cP, cN, bI_0, Bool.not_eq_false, lt_nle, Decidable.not_not] at b100
          have hc2 : c < 400 := nle64 b100 (by omega) (by omega)
          refine gF (by first | assumption | exact hm.obj | exact hm.arr _ rfl) ?_
          refine gF (by first | assumption | exact hm.obj | exact hm.arr _ rfl) ?_
          refine gA (by first | assumption | exact hm.obj | exact hm.arr _ rfl) (by first | exact ixN (by omega) (by decide) | exact ixz (by omega) (by decide) | exact ixa (a := 64) rfl (by omega) (by decide) | exact ixa (a := 128) rfl (by omega) (by decide) | exact ixa (a := 192) rfl (by omega) (by decide) | exact ixa (a := 256) rfl (by omega) (by decide) | exact ixa (a := 262) rfl (by omega) (by decide) | exact ixa (a := 268) rfl (by omega) (by decide) | exact ixa (a := 274) rfl (by omega) (by decide) | exact ixa (a := 348) rfl (by omega) (by decide) | exact ixa (a := 400) rfl (by omega) (by decide)) ?_
          refine Exists.intro _ (Exists.intro (412 + c, t) (And.intro hm (And.intro ⟨rfl, by show 412 + c < 1800; omega, im46.trans ht⟩ ?_)))
          intro v115 S115 h115 p115 hm hf115
          have hf := hf.tr hf115
          (try dsimp only at p115)
          obtain ⟨rfl, rfl⟩ := p115
          refine sA (by first | assumption | exact hm.obj | exact hm.arr _ rfl) (by first | exact ixN (by omega) (by decide) | exact ixz (by omega) (by decide) | exact ixa (a := 64) rfl (by omega) (by decide) | exact ixa (a := 128) rfl (by omega) (by decide) | exact ixa (a := 192) rfl (by omega) (by decide) | exact ixa (a := 256) rfl (by omega) (by decide) | exact ixa (a := 262) rfl (by omega) (by decide) | exact ixa (a := 268) rfl (by omega) (by decide) | exact ixa (a := 274) rfl (by omega) (by decide) | exact ixa (a := 348) rfl (by omega) (by decide) | exact ixa (a := 400) rfl (by omega) (by decide)) (by first | exact hm.N | exact hm.No _) ?_
          intro h118 e118
          have hm := hm.uA e118 rfl; have hf := hf.uA e118 (by decide)
          rw [im_step (pc hc2)] at hm
          exact ih (n - 1) (by omega) (c + 1) _ _ (by omega) (nI_1 c) hm hf
      have l2 : ∀ (n c : Nat) (i : Int32) (h1 : AH), c + n = 64 → i = nI c → IsMod G b (imK t S0 (348 + c)) h1 → FrM b h h1 → X l G mX3_image (rmK d 0 0) (TGm G (fun v h' z' => Q v h' ∧ z' = z) 0 0) 0 0 66 [(0, .ref b), (1, .int (bI t)), (2, .int i)] [] h1 z := by
        intro n
        induction n using Nat.strongRecOn with
        | _ n ih =>
        intro c i h1 hc hi hm hf
        subst hi
        refine X.w wkX3_image (fcons (ceV k_keepsLaw mmV0 ckX3_332 rfl mrV0 (by omega) rfl) (fcons (ceV k_kept mmW1 ckX3_326 rfl mrW1 (by omega) rfl) fnil)) [66, 96] 17 rfl ?_
        refine And.intro (fun b69 => ?_) (fun b69 => ?_)
        · simp only [cP, cN, bI_0, Bool.not_eq_false, lt_nle, Decidable.not_not] at b69
          have hc2 : 64 ≤ c := (le64 (by omega) (by omega)).mp b69
          obtain rfl : c = 64 := by omega
          exact l3 400 0 _ _ rfl rfl hm hf
        · simp only [cP, cN, bI_0, Bool.not_eq_false, lt_nle, Decidable.not_not] at b69
          have hc2 : c < 64 := nle64 b69 (by omega) (by omega)
          refine gF (by first | assumption | exact hm.obj | exact hm.arr _ rfl) ?_
          refine gF (by first | assumption | exact hm.obj | exact hm.arr _ rfl) ?_
          refine gA (by first | assumption | exact hm.obj | exact hm.arr _ rfl) (by first | exact ixN (by omega) (by decide) | exact ixz (by omega) (by decide) | exact ixa (a := 64) rfl (by omega) (by decide) | exact ixa (a := 128) rfl (by omega) (by decide) | exact ixa (a := 192) rfl (by omega) (by decide) | exact ixa (a := 256) rfl (by omega) (by decide) | exact ixa (a := 262) rfl (by omega) (by decide) | exact ixa (a := 268) rfl (by omega) (by decide) | exact ixa (a := 274) rfl (by omega) (by decide) | exact ixa (a := 348) rfl (by omega) (by decide) | exact ixa (a := 400) rfl (by omega) (by decide)) ?_
          refine Exists.intro _ (Exists.intro (348 + c, t) (And.intro hm (And.intro ⟨rfl, by show 348 + c < 1800; omega, im46.trans ht⟩ ?_)))
          intro v84 S84 h84 p84 hm hf84
          have hf := hf.tr hf84
          (try dsimp only at p84)
          obtain ⟨rfl, rfl⟩ := p84
          refine sA (by first | assumption | exact hm.obj | exact hm.arr _ rfl) (by first | exact ixN (by omega) (by decide) | exact ixz (by omega) (by decide) | exact ixa (a := 64) rfl (by omega) (by decide) | exact ixa (a := 128) rfl (by omega) (by decide) | exact ixa (a := 192) rfl (by omega) (by decide) | exact ixa (a := 256) rfl (by omega) (by decide) | exact ixa (a := 262) rfl (by omega) (by decide) | exact ixa (a := 268) rfl (by omega) (by decide) | exact ixa (a := 274) rfl (by omega) (by decide) | exact ixa (a := 348) rfl (by omega) (by decide) | exact ixa (a := 400) rfl (by omega) (by decide)) (by first | exact hm.N | exact hm.No _) ?_
          intro h87 e87
          have hm := hm.uA e87 rfl; have hf := hf.uA e87 (by decide)
          rw [im_step (pb hc2)] at hm
          exact ih (n - 1) (by omega) (c + 1) _ _ (by omega) (nI_1 c) hm hf
      have l1 : ∀ (n c : Nat) (i : Int32) (h1 : AH), c + n = 348 → i = nI c → IsMod G b (imK t S0 (c)) h1 → FrM b h h1 → X l G mX3_image (rmK d 0 0) (TGm G (fun v h' z' => Q v h' ∧ z' = z) 0 0) 0 0 35 [(0, .ref b), (1, .int (bI t)), (2, .int i)] [] h1 z := by
        intro n
        induction n using Nat.strongRecOn with
        | _ n ih =>
        intro c i h1 hc hi hm hf
        subst hi
        refine X.w wkX3_image (fcons (ceV k_keepsLaw mmV0 ckX3_332 rfl mrV0 (by omega) rfl) (fcons (ceV k_kept mmW1 ckX3_326 rfl mrW1 (by omega) rfl) fnil)) [35, 66] 17 rfl ?_
        refine And.intro (fun b39 => ?_) (fun b39 => ?_)
        · simp only [cP, cN, bI_0, Bool.not_eq_false, lt_nle, Decidable.not_not] at b39
          have hc2 : 348 ≤ c := (le64 (by omega) (by omega)).mp b39
          obtain rfl : c = 348 := by omega
          exact l2 64 0 _ _ rfl rfl hm hf
        · simp only [cP, cN, bI_0, Bool.not_eq_false, lt_nle, Decidable.not_not] at b39
          have hc2 : c < 348 := nle64 b39 (by omega) (by omega)
          refine gF (by first | assumption | exact hm.obj | exact hm.arr _ rfl) ?_
          refine gF (by first | assumption | exact hm.obj | exact hm.arr _ rfl) ?_
          refine gA (by first | assumption | exact hm.obj | exact hm.arr _ rfl) (by first | exact ixN (by omega) (by decide) | exact ixz (by omega) (by decide) | exact ixa (a := 64) rfl (by omega) (by decide) | exact ixa (a := 128) rfl (by omega) (by decide) | exact ixa (a := 192) rfl (by omega) (by decide) | exact ixa (a := 256) rfl (by omega) (by decide) | exact ixa (a := 262) rfl (by omega) (by decide) | exact ixa (a := 268) rfl (by omega) (by decide) | exact ixa (a := 274) rfl (by omega) (by decide) | exact ixa (a := 348) rfl (by omega) (by decide) | exact ixa (a := 400) rfl (by omega) (by decide)) ?_
          refine Exists.intro _ (Exists.intro (c, t) (And.intro hm (And.intro ⟨rfl, by show c < 1800; omega, im46.trans ht⟩ ?_)))
          intro v54 S54 h54 p54 hm hf54
          have hf := hf.tr hf54
          (try dsimp only at p54)
          obtain ⟨rfl, rfl⟩ := p54
          refine sA (by first | assumption | exact hm.obj | exact hm.arr _ rfl) (by first | exact ixN (by omega) (by decide) | exact ixz (by omega) (by decide) | exact ixa (a := 64) rfl (by omega) (by decide) | exact ixa (a := 128) rfl (by omega) (by decide) | exact ixa (a := 192) rfl (by omega) (by decide) | exact ixa (a := 256) rfl (by omega) (by decide) | exact ixa (a := 262) rfl (by omega) (by decide) | exact ixa (a := 268) rfl (by omega) (by decide) | exact ixa (a := 274) rfl (by omega) (by decide) | exact ixa (a := 348) rfl (by omega) (by decide) | exact ixa (a := 400) rfl (by omega) (by decide)) (by first | exact hm.N | exact hm.No _) ?_
          intro h57 e57
          have hm := hm.uA e57 rfl; have hf := hf.uA e57 (by decide)
          rw [im_step (pa hc2)] at hm
          exact ih (n - 1) (by omega) (c + 1) _ _ (by omega) (nI_1 c) hm hf
      intro h0 hm hf
      exact l1 348 0 _ _ rfl rfl hm hf
    refine X.w wkX3_image (fcons (ceV k_keepsLaw mmV0 ckX3_332 rfl mrV0 (by omega) rfl) (fcons (ceV k_kept mmW1 ckX3_326 rfl mrW1 (by omega) rfl) fnil)) [35] 21 rfl ?_
    refine pF0 (okV_W rfl) (by first | assumption | exact hm.obj | exact hm.arr _ rfl) (Nat.le_of_ble_eq_true rfl) (by first | exact hm.N | exact hm.No _) ?_
    intro h2 e2
    have hm := hm.u0 e2 rfl; have hf := hf.u0 e2
    refine And.intro (fun b6 => ?_) (fun b6 => ?_)
    · simp only [cP, cN, bI_0, Bool.not_eq_false, lt_nle, Decidable.not_not] at b6
      have ht2 : t = true := b6
      refine pF0 (by cases t <;> exact ⟨rfl, rfl⟩) (by first | assumption | exact hm.obj | exact hm.arr _ rfl) (Nat.le_of_ble_eq_true rfl) (by first | exact hm.N | exact hm.No _) ?_
      intro h20 e20
      have hm := hm.u0 e20 rfl; have hf := hf.u0 e20
      refine pF0 ⟨rfl, rfl⟩ (by first | assumption | exact hm.obj | exact hm.arr _ rfl) (Nat.le_of_ble_eq_true rfl) (by first | exact hm.N | exact hm.No _) ?_
      intro h25 e25
      have hm := hm.u0 e25 rfl; have hf := hf.u0 e25
      refine pF0 (okV_W rfl) (by first | assumption | exact hm.obj | exact hm.arr _ rfl) (Nat.le_of_ble_eq_true rfl) (by first | exact hm.N | exact hm.No _) ?_
      intro h30 e30
      have hm := hm.u0 e30 rfl; have hf := hf.u0 e30
      refine main (by rw [ht2]; rfl) (im0 S t) rfl (fun h' hm hf => hs _ _ _ (Or.inl ⟨by rw [ht2]; rfl, rfl, rfl⟩) hm hf) _ ?_ hf
      have e : imK t (im0 S t) 0 = im0 S t := by
        show up2 (im0 S t) 0 48 0 = _
        exact up2_2
      rw [e]
      exact hm
    · simp only [cP, cN, bI_0, Bool.not_eq_false, lt_nle, Decidable.not_not] at b6
      have ht2 : t = false := b6
      refine gF (by first | assumption | exact hm.obj | exact hm.arr _ rfl) ?_
      refine And.intro (fun b13 => ?_) (fun b13 => ?_)
      · simp only [cP, cN, bI_0, Bool.not_eq_false, lt_nle, Decidable.not_not] at b13
        have hi2 : ib = true := by cases ib with | true => rfl | false => exact absurd hib b13
        refine pF0 (by cases t <;> exact ⟨rfl, rfl⟩) (by first | assumption | exact hm.obj | exact hm.arr _ rfl) (Nat.le_of_ble_eq_true rfl) (by first | exact hm.N | exact hm.No _) ?_
        intro h20 e20
        have hm := hm.u0 e20 rfl; have hf := hf.u0 e20
        refine pF0 ⟨rfl, rfl⟩ (by first | assumption | exact hm.obj | exact hm.arr _ rfl) (Nat.le_of_ble_eq_true rfl) (by first | exact hm.N | exact hm.No _) ?_
        intro h25 e25
        have hm := hm.u0 e25 rfl; have hf := hf.u0 e25
        refine pF0 (okV_W rfl) (by first | assumption | exact hm.obj | exact hm.arr _ rfl) (Nat.le_of_ble_eq_true rfl) (by first | exact hm.N | exact hm.No _) ?_
        intro h30 e30
        have hm := hm.u0 e30 rfl; have hf := hf.u0 e30
        refine main (by rw [hi2]; cases t <;> rfl) (im0 S t) rfl (fun h' hm hf => hs _ _ _ (Or.inl ⟨by rw [hi2]; cases t <;> rfl, rfl, rfl⟩) hm hf) _ ?_ hf
        have e : imK t (im0 S t) 0 = im0 S t := by
          show up2 (im0 S t) 0 48 0 = _
          exact up2_2
        rw [e]
        exact hm
      · simp only [cP, cN, bI_0, Bool.not_eq_false, lt_nle, Decidable.not_not] at b13
        have hi2 : ib = false := by cases ib with | false => rfl | true => exact absurd (hib.symm.trans b13) (by decide)
        refine And.intro (by first | exact Or.inl rfl | exact Or.inr rfl | exact bI_01 _) ?_
        exact And.intro (hs _ _ _ (Or.inr ⟨by rw [ht2, hi2]; rfl, rfl, rfl⟩) hm hf) rfl
