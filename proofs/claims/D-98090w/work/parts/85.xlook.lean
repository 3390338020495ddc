set_option maxRecDepth 100000
/-! THE CLASS: looking, told by what the model M would see -/
theorem foldN_st {p : Nat → Bool} {g : Nat → Int32 → Int32} {x y w : Int32} {k : Nat} (hv : y = foldN p g x k) (h : p k = true) (e : w = g k y) : w = foldN p g x (k + 1) := by
  rw [e, hv, foldN_t h]
theorem foldN_sf {p : Nat → Bool} {g : Nat → Int32 → Int32} {x y : Int32} {k : Nat} (hv : y = foldN p g x k) (h : p k = false) : y = foldN p g x (k + 1) := by
  rw [hv, foldN_f h]
section RS
variable {W : XW} {M : SS}
theorem RelX.sz (r : RelX W M) {c : Nat} (hc : c < 64) (h : capB (W.S 0) (nI c) = true) : M 1 (64 + c) = W.S 0 3 c := r.w.2.2.1 3 c hc (cap_ne r.w hc h)
theorem RelX.cm (r : RelX W M) {c : Nat} (hc : c < 64) (h : capB (W.S 0) (nI c) = true) : M 1 (128 + c) = W.S 0 4 c := r.w.2.2.1 4 c hc (cap_ne r.w hc h)
theorem RelX.by (r : RelX W M) {c : Nat} (hc : c < 64) (h : capB (W.S 0) (nI c) = true) : M 1 (192 + c) = W.S 0 5 c := r.w.2.2.1 5 c hc (cap_ne r.w hc h)
theorem RelX.wi (r : RelX W M) {c : Nat} (hc : c < 64) (h : capB (W.S 0) (nI c) = true) : IX (W.S 0 2 c) 12 (gN (W.S 0 2 c)) := ixE (cap_word r.w hc h).1.1 (by have := (cap_word r.w hc h).1.2; omega) (by decide)
theorem RelX.kd (r : RelX W M) {c : Nat} (hc : c < 64) (h : capB (W.S 0) (nI c) = true) : M 4 (gN (W.S 0 2 c)) = W.S 0 7 (gN (W.S 0 2 c)) ∧ M 5 (gN (W.S 0 2 c)) = W.S 0 8 (gN (W.S 0 2 c)) ∧ M 6 (gN (W.S 0 2 c)) = W.S 0 9 (gN (W.S 0 2 c)) := r.w.2.2.2.1 11 _ (cap_word r.w hc h).2
end RS
theorem x_unsaid : CtS mX0_unsaid (4) (xR2 (fun (M : SS) ce0 r W => RelX W M) (fun (M : SS) ce0 r W => unsM M ce0 r)) := by
  intro l G d hd as h z Q hs
  match as, hs with
  | [.ref b, .int ce0, .int r], hs =>
    obtain ⟨W, M, hx, hp, hs⟩ := hs
    replace hp : RelX W M := hp
    replace hs : ∀ r9, r9 = unsM M ce0 r → Q (some (.int r9)) h := hs
    have hf : FrX b h h := FrX.rf
    refine Ct.of rfl (Nat.le_of_ble_eq_true rfl) rfl ?_
    have loop : ∀ (n c : Nat) (i : Int32) (v : Int32), c + n = 64 → i = nI c → (arM M ce0 r = true) → (v = foldN (craM M ce0 r) (fun c x => x ||| (1 : Int32) <<< ((M 1 c - 1) &&& 31)) 0 c) → X l G mX0_unsaid (rmK d 0 0) (TGm G (fun v h' z' => Q v h' ∧ z' = z) 0 0) 0 0 16 [(0, .ref b), (1, .int ce0), (2, .int r), (3, .int v), (4, .int i)] [] h z := by
      intro  n
      induction n using Nat.strongRecOn with
      | _ n ih =>
      intro c i v  hc hi har hv
      subst hi
      refine X.w wkX0_unsaid (fcons (ceS c_far mo2 ckX0_220 (by omega) rfl) (fcons (ceV c_hasCap moW1 ckX0_168 rfl rcW1 (by omega) rfl) (fcons (ceV x_isRound xmR2 ckX0_234 rfl xrR2 (by omega) rfl) fnil))) [16] 27 rfl ?_
      refine And.intro (fun b20 => ?_) (fun b20 => ?_)
      · simp only [cP, cN, bI_0, Bool.not_eq_false, lt_nle, Decidable.not_not] at b20
        have hc2 : 64 ≤ c := (le64 (by omega) (by omega)).mp b20
        obtain rfl : c = 64 := by omega
        exact And.intro (hs _ (by rw [hv]; unfold unsM; rw [if_pos har])) rfl
      · simp only [cP, cN, bI_0, Bool.not_eq_false, lt_nle, Decidable.not_not] at b20
        have hc2 : c < 64 := nle64 b20 (by omega) (by omega)
        refine gF (by first | assumption | exact hx.obj | exact hx.bk | exact hx.rs | exact hx.sp | exact hx.tp | exact hx.w0.obj | exact hx.w0.arr _ rfl) ?_
        refine Exists.intro _ (Exists.intro _ (And.intro hx.w0 ?_))
        refine And.intro (fun b32 => ?_) (fun b32 => ?_)
        · simp only [cP, cN, bI_0, Bool.not_eq_false, lt_nle, Decidable.not_not] at b32
          exact ih (n - 1) (by omega) (c + 1) _ _ (by omega) (nI_1 c) har (foldN_sf hv (show craM M ce0 r c = false from by simp only [craM, ← hp.cap hc2, lt_nle, b20, b32, decide_true, decide_false, Bool.and_true, Bool.true_and, Bool.and_false, Bool.false_and, Bool.or_true, Bool.true_or, Bool.or_false, Bool.false_or, not_true_eq_false, not_false_eq_true, Bool.not_true, Bool.not_false, decide_not, if_true, if_false, and_true, true_and, and_false, false_and, or_true, true_or, or_false, false_or, Bool.false_eq_true]))
        · simp only [cP, cN, bI_0, Bool.not_eq_false, lt_nle, Decidable.not_not] at b32
          refine And.intro (fun b42 => ?_) (fun b42 => ?_)
          · simp only [cP, cN, bI_0, Bool.not_eq_false, lt_nle, Decidable.not_not] at b42
            exact ih (n - 1) (by omega) (c + 1) _ _ (by omega) (nI_1 c) har (foldN_sf hv (show craM M ce0 r c = false from by simp only [craM, ← hp.cap hc2, lt_nle, b20, b32, b42, decide_true, decide_false, Bool.and_true, Bool.true_and, Bool.and_false, Bool.false_and, Bool.or_true, Bool.true_or, Bool.or_false, Bool.false_or, not_true_eq_false, not_false_eq_true, Bool.not_true, Bool.not_false, decide_not, if_true, if_false, and_true, true_and, and_false, false_and, or_true, true_or, or_false, false_or, Bool.false_eq_true]))
          · simp only [cP, cN, bI_0, Bool.not_eq_false, lt_nle, Decidable.not_not] at b42
            refine gF (by first | assumption | exact hx.obj | exact hx.bk | exact hx.rs | exact hx.sp | exact hx.tp | exact hx.w0.obj | exact hx.w0.arr _ rfl) ?_
            refine gF (by first | assumption | exact hx.obj | exact hx.bk | exact hx.rs | exact hx.sp | exact hx.tp | exact hx.w0.obj | exact hx.w0.arr _ rfl) ?_
            refine gA (by first | assumption | exact hx.obj | exact hx.bk | exact hx.rs | exact hx.sp | exact hx.tp | exact hx.w0.obj | exact hx.w0.arr _ rfl) (by first | exact ixN (by omega) (by decide) | exact ixz (by omega) (by decide)) ?_
            refine ih (n - 1) (by omega) (c + 1) _ _ (by omega) (nI_1 c) har (foldN_st hv (show craM M ce0 r c = true from by simp only [craM, ← hp.cap hc2, lt_nle, b20, b32, b42, decide_true, decide_false, Bool.and_true, Bool.true_and, Bool.and_false, Bool.false_and, Bool.or_true, Bool.true_or, Bool.or_false, Bool.false_or, not_true_eq_false, not_false_eq_true, Bool.not_true, Bool.not_false, decide_not, if_true, if_false, and_true, true_and, and_false, false_and, or_true, true_or, or_false, false_or, Bool.false_eq_true]) ?_)
            show _ = v ||| (1 : Int32) <<< ((M 1 c - 1) &&& 31)
            rw [hp.wd1 hc2]
    refine X.w wkX0_unsaid (fcons (ceS c_far mo2 ckX0_220 (by omega) rfl) (fcons (ceV c_hasCap moW1 ckX0_168 rfl rcW1 (by omega) rfl) (fcons (ceV x_isRound xmR2 ckX0_234 rfl xrR2 (by omega) rfl) fnil))) [16] 11 rfl ?_
    refine Exists.intro _ (Exists.intro () (And.intro hx (And.intro trivial ?_)))
    intro v3 e3
    subst e3
    refine And.intro (fun b6 => ?_) (fun b6 => ?_)
    · simp only [cP, cN, bI_0, Bool.not_eq_false, lt_nle, Decidable.not_not] at b6
      exact loop 64 0 _ _ rfl rfl (by rw [hp.rd]; exact b6) rfl
    · simp only [cP, cN, bI_0, Bool.not_eq_false, lt_nle, Decidable.not_not] at b6
      exact And.intro (hs _ (by unfold unsM; rw [if_neg (by rw [hp.rd, b6]; decide)])) rfl
theorem x_around : CtS mX0_around (4) (xR2 (fun (M : SS) ce0 r W => RelX W M) (fun (M : SS) ce0 r W => grvM M ce0 r)) := by
  intro l G d hd as h z Q hs
  match as, hs with
  | [.ref b, .int ce0, .int r], hs =>
    obtain ⟨W, M, hx, hp, hs⟩ := hs
    replace hp : RelX W M := hp
    replace hs : ∀ r9, r9 = grvM M ce0 r → Q (some (.int r9)) h := hs
    have hf : FrX b h h := FrX.rf
    refine Ct.of rfl (Nat.le_of_ble_eq_true rfl) rfl ?_
    have loop : ∀ (n c : Nat) (i : Int32) (v : Int32), c + n = 64 → i = nI c → (v = foldN (craM M ce0 r) (fun c x => x + M 1 (64 + c) * M 4 (gN (M 1 c - 1))) 0 c) → X l G mX0_around (rmK d 0 0) (TGm G (fun v h' z' => Q v h' ∧ z' = z) 0 0) 0 0 5 [(0, .ref b), (1, .int ce0), (2, .int r), (3, .int v), (4, .int i)] [] h z := by
      intro  n
      induction n using Nat.strongRecOn with
      | _ n ih =>
      intro c i v  hc hi hv
      subst hi
      refine X.w wkX0_around (fcons (ceS c_far mo2 ckX0_220 (by omega) rfl) (fcons (ceV c_hasCap moW1 ckX0_168 rfl rcW1 (by omega) rfl) fnil)) [5] 35 rfl ?_
      refine And.intro (fun b9 => ?_) (fun b9 => ?_)
      · simp only [cP, cN, bI_0, Bool.not_eq_false, lt_nle, Decidable.not_not] at b9
        have hc2 : 64 ≤ c := (le64 (by omega) (by omega)).mp b9
        obtain rfl : c = 64 := by omega
        exact And.intro (hs _ hv) rfl
      · simp only [cP, cN, bI_0, Bool.not_eq_false, lt_nle, Decidable.not_not] at b9
        have hc2 : c < 64 := nle64 b9 (by omega) (by omega)
        refine gF (by first | assumption | exact hx.obj | exact hx.bk | exact hx.rs | exact hx.sp | exact hx.tp | exact hx.w0.obj | exact hx.w0.arr _ rfl) ?_
        refine Exists.intro _ (Exists.intro _ (And.intro hx.w0 ?_))
        refine And.intro (fun b21 => ?_) (fun b21 => ?_)
        · simp only [cP, cN, bI_0, Bool.not_eq_false, lt_nle, Decidable.not_not] at b21
          exact ih (n - 1) (by omega) (c + 1) _ _ (by omega) (nI_1 c) (foldN_sf hv (show craM M ce0 r c = false from by simp only [craM, ← hp.cap hc2, lt_nle, b9, b21, decide_true, decide_false, Bool.and_true, Bool.true_and, Bool.and_false, Bool.false_and, Bool.or_true, Bool.true_or, Bool.or_false, Bool.false_or, not_true_eq_false, not_false_eq_true, Bool.not_true, Bool.not_false, decide_not, if_true, if_false, and_true, true_and, and_false, false_and, or_true, true_or, or_false, false_or, Bool.false_eq_true]))
        · simp only [cP, cN, bI_0, Bool.not_eq_false, lt_nle, Decidable.not_not] at b21
          refine And.intro (fun b31 => ?_) (fun b31 => ?_)
          · simp only [cP, cN, bI_0, Bool.not_eq_false, lt_nle, Decidable.not_not] at b31
            exact ih (n - 1) (by omega) (c + 1) _ _ (by omega) (nI_1 c) (foldN_sf hv (show craM M ce0 r c = false from by simp only [craM, ← hp.cap hc2, lt_nle, b9, b21, b31, decide_true, decide_false, Bool.and_true, Bool.true_and, Bool.and_false, Bool.false_and, Bool.or_true, Bool.true_or, Bool.or_false, Bool.false_or, not_true_eq_false, not_false_eq_true, Bool.not_true, Bool.not_false, decide_not, if_true, if_false, and_true, true_and, and_false, false_and, or_true, true_or, or_false, false_or, Bool.false_eq_true]))
          · simp only [cP, cN, bI_0, Bool.not_eq_false, lt_nle, Decidable.not_not] at b31
            refine gF (by first | assumption | exact hx.obj | exact hx.bk | exact hx.rs | exact hx.sp | exact hx.tp | exact hx.w0.obj | exact hx.w0.arr _ rfl) ?_
            refine gF (by first | assumption | exact hx.obj | exact hx.bk | exact hx.rs | exact hx.sp | exact hx.tp | exact hx.w0.obj | exact hx.w0.arr _ rfl) ?_
            refine gA (by first | assumption | exact hx.obj | exact hx.bk | exact hx.rs | exact hx.sp | exact hx.tp | exact hx.w0.obj | exact hx.w0.arr _ rfl) (by first | exact ixN (by omega) (by decide) | exact ixz (by omega) (by decide)) ?_
            refine gF (by first | assumption | exact hx.obj | exact hx.bk | exact hx.rs | exact hx.sp | exact hx.tp | exact hx.w0.obj | exact hx.w0.arr _ rfl) ?_
            refine gF (by first | assumption | exact hx.obj | exact hx.bk | exact hx.rs | exact hx.sp | exact hx.tp | exact hx.w0.obj | exact hx.w0.arr _ rfl) ?_
            refine gF (by first | assumption | exact hx.obj | exact hx.bk | exact hx.rs | exact hx.sp | exact hx.tp | exact hx.w0.obj | exact hx.w0.arr _ rfl) ?_
            refine gF (by first | assumption | exact hx.obj | exact hx.bk | exact hx.rs | exact hx.sp | exact hx.tp | exact hx.w0.obj | exact hx.w0.arr _ rfl) ?_
            refine gA (by first | assumption | exact hx.obj | exact hx.bk | exact hx.rs | exact hx.sp | exact hx.tp | exact hx.w0.obj | exact hx.w0.arr _ rfl) (by first | exact ixN (by omega) (by decide) | exact ixz (by omega) (by decide)) ?_
            refine gA (by first | assumption | exact hx.obj | exact hx.bk | exact hx.rs | exact hx.sp | exact hx.tp | exact hx.w0.obj | exact hx.w0.arr _ rfl) (hp.wi hc2 b21) ?_
            refine ih (n - 1) (by omega) (c + 1) _ _ (by omega) (nI_1 c) (foldN_st hv (show craM M ce0 r c = true from by simp only [craM, ← hp.cap hc2, lt_nle, b9, b21, b31, decide_true, decide_false, Bool.and_true, Bool.true_and, Bool.and_false, Bool.false_and, Bool.or_true, Bool.true_or, Bool.or_false, Bool.false_or, not_true_eq_false, not_false_eq_true, Bool.not_true, Bool.not_false, decide_not, if_true, if_false, and_true, true_and, and_false, false_and, or_true, true_or, or_false, false_or, Bool.false_eq_true]) ?_)
            show _ = v + M 1 (64 + c) * M 4 (gN (M 1 c - 1))
            rw [hp.wd1 hc2, hp.sz hc2 b21, (hp.kd hc2 b21).1]
    refine X.w wkX0_around (fcons (ceS c_far mo2 ckX0_220 (by omega) rfl) (fcons (ceV c_hasCap moW1 ckX0_168 rfl rcW1 (by omega) rfl) fnil)) [5] 6 rfl ?_
    exact loop 64 0 _ _ rfl rfl rfl
theorem bestM_t {M : SS} {r : Int32} {c : Nat} (h : isCellM M (nI c) = true ∧ grvM M (bestM M r c) r < grvM M (nI c) r) : bestM M r (c + 1) = nI c := if_pos h
theorem bestM_f {M : SS} {r : Int32} {c : Nat} (h : ¬ (isCellM M (nI c) = true ∧ grvM M (bestM M r c) r < grvM M (nI c) r)) : bestM M r (c + 1) = bestM M r c := if_neg h
theorem bestM_1 {M : SS} {r : Int32} : bestM M r 1 = 0 := by
  refine bestM_f (fun q => ?_)
  exact Int32.lt_irrefl q.2
theorem x_grove : CtS mX0_grove (5) (xR2 (fun (M : SS) r w W => RelX W M) (fun (M : SS) r w W => groM M r w)) := by
  intro l G d hd as h z Q hs
  match as, hs with
  | [.ref b, .int r, .int w], hs =>
    obtain ⟨W, M, hx, hp, hs⟩ := hs
    replace hp : RelX W M := hp
    replace hs : ∀ r9, r9 = groM M r w → Q (some (.int r9)) h := hs
    have hf : FrX b h h := FrX.rf
    refine Ct.of rfl (Nat.le_of_ble_eq_true rfl) rfl ?_
    have loop : ∀ (n c : Nat) (i : Int32) (v u : Int32), c + n = 64 → i = nI c → (isInB r 0 14 = true) → (isInB w 0 1 = true) → (v = bestM M r c) → (u = grvM M (bestM M r c) r) → (1 ≤ c) → X l G mX0_grove (rmK d 0 0) (TGm G (fun v h' z' => Q v h' ∧ z' = z) 0 0) 0 0 34 [(0, .ref b), (1, .int r), (2, .int w), (3, .int v), (4, .int u), (5, .int i)] [] h z := by
      intro  n
      induction n using Nat.strongRecOn with
      | _ n ih =>
      intro c i v u  hc hi h1 h3 hv hu hc1
      subst hi
      refine X.w wkX0_grove (fcons (ceV c_isCell moW1 ckX0_114 rfl rcW1 (by omega) rfl) (fcons (ceV x_around xmR2 ckX0_244 rfl xrR2 (by omega) rfl) (fcons (ceS c_isIn mo3 ckX0_50 (by omega) rfl) fnil))) [34] 25 rfl ?_
      refine And.intro (fun b38 => ?_) (fun b38 => ?_)
      · simp only [cP, cN, bI_0, Bool.not_eq_false, lt_nle, Decidable.not_not] at b38
        have hc2 : 64 ≤ c := (le64 (by omega) (by omega)).mp b38
        obtain rfl : c = 64 := by omega
        refine And.intro (fun b87 => ?_) (fun b87 => ?_)
        · simp only [cP, cN, bI_0, Bool.not_eq_false, lt_nle, Decidable.not_not] at b87
          exact And.intro (hs _ (by unfold groM; rw [if_pos ⟨h1, h3⟩, if_neg b87]; exact hu)) rfl
        · simp only [cP, cN, bI_0, Bool.not_eq_false, lt_nle, Decidable.not_not] at b87
          exact And.intro (hs _ (by unfold groM; rw [if_pos ⟨h1, h3⟩, if_pos b87]; exact hv)) rfl
      · simp only [cP, cN, bI_0, Bool.not_eq_false, lt_nle, Decidable.not_not] at b38
        have hc2 : c < 64 := nle64 b38 (by omega) (by omega)
        refine gF (by first | assumption | exact hx.obj | exact hx.bk | exact hx.rs | exact hx.sp | exact hx.tp | exact hx.w0.obj | exact hx.w0.arr _ rfl) ?_
        refine Exists.intro _ (Exists.intro _ (And.intro hx.w0 ?_))
        refine And.intro (fun b50 => ?_) (fun b50 => ?_)
        · simp only [cP, cN, bI_0, Bool.not_eq_false, lt_nle, Decidable.not_not] at b50
          refine ih (n - 1) (by omega) (c + 1) _ _ _ (by omega) (nI_1 c) h1 h3 ?_ ?_ (by omega)
          · rw [bestM_f (fun q => by have q1 := q.1; rw [hp.cell, b50] at q1; exact nomatch q1)]; exact hv
          · rw [bestM_f (fun q => by have q1 := q.1; rw [hp.cell, b50] at q1; exact nomatch q1)]; exact hu
        · simp only [cP, cN, bI_0, Bool.not_eq_false, lt_nle, Decidable.not_not] at b50
          refine Exists.intro _ (Exists.intro M (And.intro hx (And.intro hp ?_)))
          intro v57 e57
          (try dsimp only at e57)
          refine And.intro (fun b62 => ?_) (fun b62 => ?_)
          · simp only [cP, cN, bI_0, Bool.not_eq_false, lt_nle, Decidable.not_not] at b62
            refine Exists.intro _ (Exists.intro M (And.intro hx (And.intro hp ?_)))
            intro v75 e75
            (try dsimp only at e75)
            refine ih (n - 1) (by omega) (c + 1) _ _ _ (by omega) (nI_1 c) h1 h3 ?_ ?_ (by omega)
            · rw [bestM_t ⟨by rw [hp.cell]; exact b50, by rw [lt_nle, ← hu, ← e57]; exact b62⟩]
            · rw [bestM_t ⟨by rw [hp.cell]; exact b50, by rw [lt_nle, ← hu, ← e57]; exact b62⟩]; exact e75
          · simp only [cP, cN, bI_0, Bool.not_eq_false, lt_nle, Decidable.not_not] at b62
            refine ih (n - 1) (by omega) (c + 1) _ _ _ (by omega) (nI_1 c) h1 h3 ?_ ?_ (by omega)
            · rw [bestM_f (fun q => by have q2 := q.2; rw [lt_nle, ← hu, ← e57] at q2; exact q2 b62)]; exact hv
            · rw [bestM_f (fun q => by have q2 := q.2; rw [lt_nle, ← hu, ← e57] at q2; exact q2 b62)]; exact hu
    refine X.w wkX0_grove (fcons (ceV c_isCell moW1 ckX0_114 rfl rcW1 (by omega) rfl) (fcons (ceV x_around xmR2 ckX0_244 rfl xrR2 (by omega) rfl) (fcons (ceS c_isIn mo3 ckX0_50 (by omega) rfl) fnil))) [34] 21 rfl ?_
    refine And.intro (fun b7 => ?_) (fun b7 => ?_)
    · simp only [cP, cN, bI_0, Bool.not_eq_false, lt_nle, Decidable.not_not] at b7
      exact And.intro (hs _ (by unfold groM; rw [if_neg (fun q => absurd (b7.symm.trans q.1) (by decide))])) rfl
    · simp only [cP, cN, bI_0, Bool.not_eq_false, lt_nle, Decidable.not_not] at b7
      refine And.intro (fun b16 => ?_) (fun b16 => ?_)
      · simp only [cP, cN, bI_0, Bool.not_eq_false, lt_nle, Decidable.not_not] at b16
        refine Exists.intro _ (Exists.intro M (And.intro hx (And.intro hp ?_)))
        intro v26 e26
        (try dsimp only at e26)
        exact loop 63 1 _ _ _ rfl rfl b7 b16 bestM_1.symm (by rw [bestM_1]; exact e26) (by decide)
      · simp only [cP, cN, bI_0, Bool.not_eq_false, lt_nle, Decidable.not_not] at b16
        exact And.intro (hs _ (by unfold groM; rw [if_neg (fun q => absurd (b16.symm.trans q.2) (by decide))])) rfl
def engX (W : XW) (a c : Nat) : Bool := decide (farI (nI a) (nI c) = 1) && (decide (W.S 0 2 a = W.S 0 2 c) && (decide (W.S 0 4 a = W.S 0 4 c) && !(decide (W.S 0 5 a = W.S 0 5 c))))
theorem x_areEngaged : CtS mX0_areEngaged (3) (xR2 (fun (a : Nat × Nat) u w W => u = nI a.1 ∧ w = nI a.2 ∧ a.1 < 64 ∧ a.2 < 64) (fun (a : Nat × Nat) u w W => bI (engX W a.1 a.2))) := by
  intro l G d hd as h z Q hs
  match as, hs with
  | [.ref b, .int u, .int w], hs =>
    obtain ⟨W, a, hx, hp, hs⟩ := hs
    replace hp : u = nI a.1 ∧ w = nI a.2 ∧ a.1 < 64 ∧ a.2 < 64 := hp
    replace hs : ∀ r9, r9 = bI (engX W a.1 a.2) → Q (some (.int r9)) h := hs
    have hf : FrX b h h := FrX.rf
    refine Ct.of rfl (Nat.le_of_ble_eq_true rfl) rfl ?_
    obtain ⟨a1, a2⟩ := a
    dsimp only at hp hs
    obtain ⟨rfl, rfl, h1, h2⟩ := hp
    refine X.w wkX0_areEngaged (fcons (ceS c_far mo2 ckX0_220 (by omega) rfl) fnil) [] 42 rfl ?_
    refine And.intro (fun b6 => ?_) (fun b6 => ?_)
    · simp only [cP, cN, bI_0, Bool.not_eq_false, lt_nle, Decidable.not_not] at b6
      refine And.intro (by first | exact Or.inl rfl | exact Or.inr rfl | exact bI_01 _) ?_
      exact And.intro (hs _ (by rw [show engX W a1 a2 = false from by unfold engX; rw [show (decide (farI (nI a1) (nI a2) = 1)) = false from decide_eq_false b6]; rfl]; rfl)) rfl
    · simp only [cP, cN, bI_0, Bool.not_eq_false, lt_nle, Decidable.not_not] at b6
      refine gF (by first | assumption | exact hx.obj | exact hx.bk | exact hx.rs | exact hx.sp | exact hx.tp | exact hx.w0.obj | exact hx.w0.arr _ rfl) ?_
      refine gF (by first | assumption | exact hx.obj | exact hx.bk | exact hx.rs | exact hx.sp | exact hx.tp | exact hx.w0.obj | exact hx.w0.arr _ rfl) ?_
      refine gA (by first | assumption | exact hx.obj | exact hx.bk | exact hx.rs | exact hx.sp | exact hx.tp | exact hx.w0.obj | exact hx.w0.arr _ rfl) (by first | exact ixN (by omega) (by decide) | exact ixz (by omega) (by decide)) ?_
      refine gF (by first | assumption | exact hx.obj | exact hx.bk | exact hx.rs | exact hx.sp | exact hx.tp | exact hx.w0.obj | exact hx.w0.arr _ rfl) ?_
      refine gF (by first | assumption | exact hx.obj | exact hx.bk | exact hx.rs | exact hx.sp | exact hx.tp | exact hx.w0.obj | exact hx.w0.arr _ rfl) ?_
      refine gA (by first | assumption | exact hx.obj | exact hx.bk | exact hx.rs | exact hx.sp | exact hx.tp | exact hx.w0.obj | exact hx.w0.arr _ rfl) (by first | exact ixN (by omega) (by decide) | exact ixz (by omega) (by decide)) ?_
      refine And.intro (fun b27 => ?_) (fun b27 => ?_)
      · simp only [cP, cN, bI_0, Bool.not_eq_false, lt_nle, Decidable.not_not] at b27
        refine And.intro (by first | exact Or.inl rfl | exact Or.inr rfl | exact bI_01 _) ?_
        exact And.intro (hs _ (by rw [show engX W a1 a2 = false from by unfold engX; rw [show (decide (farI (nI a1) (nI a2) = 1)) = true from decide_eq_true b6, show (decide (W.S 0 2 a1 = W.S 0 2 a2)) = false from decide_eq_false b27]; rfl]; rfl)) rfl
      · simp only [cP, cN, bI_0, Bool.not_eq_false, lt_nle, Decidable.not_not] at b27
        refine gF (by first | assumption | exact hx.obj | exact hx.bk | exact hx.rs | exact hx.sp | exact hx.tp | exact hx.w0.obj | exact hx.w0.arr _ rfl) ?_
        refine gF (by first | assumption | exact hx.obj | exact hx.bk | exact hx.rs | exact hx.sp | exact hx.tp | exact hx.w0.obj | exact hx.w0.arr _ rfl) ?_
        refine gA (by first | assumption | exact hx.obj | exact hx.bk | exact hx.rs | exact hx.sp | exact hx.tp | exact hx.w0.obj | exact hx.w0.arr _ rfl) (by first | exact ixN (by omega) (by decide) | exact ixz (by omega) (by decide)) ?_
        refine gF (by first | assumption | exact hx.obj | exact hx.bk | exact hx.rs | exact hx.sp | exact hx.tp | exact hx.w0.obj | exact hx.w0.arr _ rfl) ?_
        refine gF (by first | assumption | exact hx.obj | exact hx.bk | exact hx.rs | exact hx.sp | exact hx.tp | exact hx.w0.obj | exact hx.w0.arr _ rfl) ?_
        refine gA (by first | assumption | exact hx.obj | exact hx.bk | exact hx.rs | exact hx.sp | exact hx.tp | exact hx.w0.obj | exact hx.w0.arr _ rfl) (by first | exact ixN (by omega) (by decide) | exact ixz (by omega) (by decide)) ?_
        refine And.intro (fun b48 => ?_) (fun b48 => ?_)
        · simp only [cP, cN, bI_0, Bool.not_eq_false, lt_nle, Decidable.not_not] at b48
          refine And.intro (by first | exact Or.inl rfl | exact Or.inr rfl | exact bI_01 _) ?_
          exact And.intro (hs _ (by rw [show engX W a1 a2 = false from by unfold engX; rw [show (decide (farI (nI a1) (nI a2) = 1)) = true from decide_eq_true b6, show (decide (W.S 0 2 a1 = W.S 0 2 a2)) = true from decide_eq_true b27, show (decide (W.S 0 4 a1 = W.S 0 4 a2)) = false from decide_eq_false b48]; rfl]; rfl)) rfl
        · simp only [cP, cN, bI_0, Bool.not_eq_false, lt_nle, Decidable.not_not] at b48
          refine gF (by first | assumption | exact hx.obj | exact hx.bk | exact hx.rs | exact hx.sp | exact hx.tp | exact hx.w0.obj | exact hx.w0.arr _ rfl) ?_
          refine gF (by first | assumption | exact hx.obj | exact hx.bk | exact hx.rs | exact hx.sp | exact hx.tp | exact hx.w0.obj | exact hx.w0.arr _ rfl) ?_
          refine gA (by first | assumption | exact hx.obj | exact hx.bk | exact hx.rs | exact hx.sp | exact hx.tp | exact hx.w0.obj | exact hx.w0.arr _ rfl) (by first | exact ixN (by omega) (by decide) | exact ixz (by omega) (by decide)) ?_
          refine gF (by first | assumption | exact hx.obj | exact hx.bk | exact hx.rs | exact hx.sp | exact hx.tp | exact hx.w0.obj | exact hx.w0.arr _ rfl) ?_
          refine gF (by first | assumption | exact hx.obj | exact hx.bk | exact hx.rs | exact hx.sp | exact hx.tp | exact hx.w0.obj | exact hx.w0.arr _ rfl) ?_
          refine gA (by first | assumption | exact hx.obj | exact hx.bk | exact hx.rs | exact hx.sp | exact hx.tp | exact hx.w0.obj | exact hx.w0.arr _ rfl) (by first | exact ixN (by omega) (by decide) | exact ixz (by omega) (by decide)) ?_
          refine And.intro (fun b69 => ?_) (fun b69 => ?_)
          · simp only [cP, cN, bI_0, Bool.not_eq_false, lt_nle, Decidable.not_not] at b69
            refine And.intro (by first | exact Or.inl rfl | exact Or.inr rfl | exact bI_01 _) ?_
            exact And.intro (hs _ (by rw [show engX W a1 a2 = false from by unfold engX; rw [show (decide (farI (nI a1) (nI a2) = 1)) = true from decide_eq_true b6, show (decide (W.S 0 2 a1 = W.S 0 2 a2)) = true from decide_eq_true b27, show (decide (W.S 0 4 a1 = W.S 0 4 a2)) = true from decide_eq_true b48, show (!(decide (W.S 0 5 a1 = W.S 0 5 a2))) = false from by simp only [b69, decide_true, decide_false, Bool.and_true, Bool.true_and, Bool.and_false, Bool.false_and, Bool.or_true, Bool.true_or, Bool.or_false, Bool.false_or, not_true_eq_false, not_false_eq_true, Bool.not_true, Bool.not_false, decide_not, if_true, if_false, and_true, true_and, and_false, false_and, or_true, true_or, or_false, false_or, Bool.false_eq_true]]; rfl]; rfl)) rfl
          · simp only [cP, cN, bI_0, Bool.not_eq_false, lt_nle, Decidable.not_not] at b69
            refine And.intro (by first | exact Or.inl rfl | exact Or.inr rfl | exact bI_01 _) ?_
            exact And.intro (hs _ (by rw [show engX W a1 a2 = true from by unfold engX; rw [show (decide (farI (nI a1) (nI a2) = 1)) = true from decide_eq_true b6, show (decide (W.S 0 2 a1 = W.S 0 2 a2)) = true from decide_eq_true b27, show (decide (W.S 0 4 a1 = W.S 0 4 a2)) = true from decide_eq_true b48, show (!(decide (W.S 0 5 a1 = W.S 0 5 a2))) = true from by simp only [b69, decide_true, decide_false, Bool.and_true, Bool.true_and, Bool.and_false, Bool.false_and, Bool.or_true, Bool.true_or, Bool.or_false, Bool.false_or, not_true_eq_false, not_false_eq_true, Bool.not_true, Bool.not_false, decide_not, if_true, if_false, and_true, true_and, and_false, false_and, or_true, true_or, or_false, false_or, Bool.false_eq_true]]; rfl]; rfl)) rfl
theorem RelX.eng {W : XW} {M : SS} (r : RelX W M) {a c : Nat} (ha : a < 64) (hc : c < 64) (h1 : capB (W.S 0) (nI a) = true) (h2 : capB (W.S 0) (nI c) = true) : engB M a c = engX W a c := by
  unfold engB engX
  rw [← r.cap ha, h1, r.cm ha h1, r.cm hc h2, r.by ha h1, r.by hc h2, show M 1 a = _ from r.w.2.2.1 2 a ha, show M 1 c = _ from r.w.2.2.1 2 c hc]
  simp only [add1_inj, Bool.true_and]
  rw [← Bool.and_assoc, Bool.and_comm (decide (W.S 0 2 a = W.S 0 2 c)), Bool.and_assoc]
theorem RelX.eng1 {W : XW} {M : SS} (r : RelX W M) {a c : Nat} (ha : a < 64) (h1 : capB (W.S 0) (nI a) = false) : engB M a c = false := by
  unfold engB
  rw [← r.cap ha, h1]; rfl
theorem RelX.eng2 {W : XW} {M : SS} (r : RelX W M) {a c : Nat} (ha : a < 64) (hc : c < 64) (h1 : capB (W.S 0) (nI a) = true) (h2 : capB (W.S 0) (nI c) = false) : engB M a c = false := by
  unfold engB
  have e1 := (cap_t r.w ha).mp h1
  have e2 := (cap_f r.w hc).mp h2
  rw [decide_eq_false (fun q => by rw [q, e2] at e1; exact absurd e1 (by decide)), Bool.false_and, Bool.and_false]
/-- what the class has found against what the model has -/
def EgR (q : Int32 × Int32) (x y u : Int32) : Prop := q.1 = x ∧ ((q.2 = -1 ∧ y = -1 ∧ u = -1) ∨ ∃ a c : Nat, a < 64 ∧ c < 64 ∧ q.2 = 64 * nI a + nI c ∧ y = nI a ∧ u = nI c)
theorem EgR.f {M : SS} {a c : Nat} {q : Int32 × Int32} {x y u : Int32} (r : EgR q x y u) (h : engB M a c = false) : EgR (egS M a c q) x y u := by
  unfold egS
  rw [if_neg (by rw [h]; decide)]
  exact r
theorem EgR.t0 {M : SS} {a c : Nat} {q : Int32 × Int32} {x y u : Int32} (r : EgR q x y u) (h : engB M a c = true) (ha : a < 64) (hc : c < 64) (hx : x = 0) : EgR (egS M a c q) (x + 1) (nI a) (nI c) := by
  unfold egS
  rw [if_pos h, if_pos (r.1.trans hx), r.1]
  exact ⟨rfl, Or.inr ⟨a, c, ha, hc, rfl, rfl, rfl⟩⟩
theorem EgR.t1 {M : SS} {a c : Nat} {q : Int32 × Int32} {x y u : Int32} (r : EgR q x y u) (h : engB M a c = true) (hx : ¬ x = 0) : EgR (egS M a c q) (x + 1) y u := by
  unfold egS
  rw [if_pos h, if_neg (fun e => hx (r.1.symm.trans e)), r.1]
  exact ⟨rfl, r.2⟩
theorem EgR.end {M : SS} {w x y u : Int32} (r : EgR (egO M 64) x y u) (h : isInB w 0 2 = true) : egM M w = if w = 0 then x else if w = 1 then y else u := by
  unfold egM
  rw [if_pos h, r.1]
  by_cases h0 : w = 0
  · rw [if_pos h0, if_pos h0]
  · rw [if_neg h0, if_neg h0]
    rcases r.2 with ⟨e1, e2, e3⟩ | ⟨a, c, ha, hc, e1, e2, e3⟩
    · rw [if_pos e1, e2, e3]
      split <;> rfl
    · have e9 : 64 * nI a + nI c = nI (64 * a + c) := by rw [show (64 : Int32) = nI 64 from rfl, pk_mul, nI_add]
      have e8 : nI (64 * a + c) / 64 = nI a := by
        have h9 : nI (64 * a + c) / nI 64 = nI ((64 * a + c) / 64) := pk_div (by omega) (by decide) (by decide)
        refine h9.trans ?_
        congr 1; omega
      rw [e1, e9, if_neg, e8, e2, e3]
      · by_cases h1 : w = 1
        · rw [if_pos h1, if_pos h1]
        · rw [if_neg h1, if_neg h1, show (64 : Int32) = nI 64 from rfl, pk_mul, pk_sub (by omega)]
          congr 1; omega
      · intro q
        have h9 := nI_pos' (n := 64 * a + c) (by omega)
        rw [q] at h9
        exact absurd h9 (by decide)
theorem x_engaged : CtS mX0_engaged (4) (xR1 (fun (M : SS) w W => RelX W M) (fun (M : SS) w W => egM M w)) := by
  intro l G d hd as h z Q hs
  match as, hs with
  | [.ref b, .int w], hs =>
    obtain ⟨W, M, hx, hp, hs⟩ := hs
    replace hp : RelX W M := hp
    replace hs : ∀ r9, r9 = egM M w → Q (some (.int r9)) h := hs
    have hf : FrX b h h := FrX.rf
    refine Ct.of rfl (Nat.le_of_ble_eq_true rfl) rfl ?_
    have loop : ∀ (n c : Nat) (i : Int32) (x y u : Int32), c + n = 64 → i = nI c → (isInB w 0 2 = true) → (EgR (egO M c) x y u) → X l G mX0_engaged (rmK d 0 0) (TGm G (fun v h' z' => Q v h' ∧ z' = z) 0 0) 0 0 21 [(0, .ref b), (1, .int w), (2, .int x), (3, .int y), (4, .int u), (5, .int i)] [] h z := by
      intro  n
      induction n using Nat.strongRecOn with
      | _ n ih =>
      intro c i x y u  hc hi h1 hv
      subst hi
      refine X.w wkX0_engaged (fcons (ceV x_areEngaged xmR2 ckX0_247 rfl xrR2 (by omega) rfl) (fcons (ceV c_hasCap moW1 ckX0_168 rfl rcW1 (by omega) rfl) (fcons (ceS c_isIn mo3 ckX0_50 (by omega) rfl) fnil))) [34] 12 rfl ?_
      refine And.intro (fun b25 => ?_) (fun b25 => ?_)
      · simp only [cP, cN, bI_0, Bool.not_eq_false, lt_nle, Decidable.not_not] at b25
        have hc2 : 64 ≤ c := (le64 (by omega) (by omega)).mp b25
        obtain rfl : c = 64 := by omega
        refine And.intro (fun b119 => ?_) (fun b119 => ?_)
        · simp only [cP, cN, bI_0, Bool.not_eq_false, lt_nle, Decidable.not_not] at b119
          refine And.intro (fun b128 => ?_) (fun b128 => ?_)
          · simp only [cP, cN, bI_0, Bool.not_eq_false, lt_nle, Decidable.not_not] at b128
            exact And.intro (hs _ (by rw [hv.end h1, if_neg b119, if_neg b128])) rfl
          · simp only [cP, cN, bI_0, Bool.not_eq_false, lt_nle, Decidable.not_not] at b128
            exact And.intro (hs _ (by rw [hv.end h1, if_neg b119, if_pos b128])) rfl
        · simp only [cP, cN, bI_0, Bool.not_eq_false, lt_nle, Decidable.not_not] at b119
          exact And.intro (hs _ (by rw [hv.end h1, if_pos b119])) rfl
      · simp only [cP, cN, bI_0, Bool.not_eq_false, lt_nle, Decidable.not_not] at b25
        have hc2 : c < 64 := nle64 b25 (by omega) (by omega)
        have out : ∀ (x y u : Int32), EgR (egI M c (63 - c) (egO M c)) x y u → X l G mX0_engaged (rmK d 0 0) (TGm G (fun v h' z' => Q v h' ∧ z' = z) 0 0) 0 0 112 [(0, .ref b), (1, .int w), (2, .int x), (3, .int y), (4, .int u), (5, .int (nI c))] [] h z := by
          intro x y u hw
          refine X.w wkX0_engaged (fcons (ceV x_areEngaged xmR2 ckX0_247 rfl xrR2 (by omega) rfl) (fcons (ceV c_hasCap moW1 ckX0_168 rfl rcW1 (by omega) rfl) (fcons (ceS c_isIn mo3 ckX0_50 (by omega) rfl) fnil))) [21] 4 rfl ?_
          exact ih (n - 1) (by omega) (c + 1) _ _ _ _ (by omega) (nI_1 c) h1 hw
        have inn : ∀ (n e : Nat) (i : Int32) (x y u : Int32), e + n = (63 - c) → i = nI (c + 1 + e) → (EgR (egI M c e (egO M c)) x y u) → X l G mX0_engaged (rmK d 0 0) (TGm G (fun v h' z' => Q v h' ∧ z' = z) 0 0) 0 0 34 [(0, .ref b), (1, .int w), (2, .int x), (3, .int y), (4, .int u), (5, .int (nI c)), (6, .int i)] [] h z := by
          intro  n
          induction n using Nat.strongRecOn with
          | _ n ih2 =>
          intro e i x y u  hc hi hw
          subst hi
          refine X.w wkX0_engaged (fcons (ceV x_areEngaged xmR2 ckX0_247 rfl xrR2 (by omega) rfl) (fcons (ceV c_hasCap moW1 ckX0_168 rfl rcW1 (by omega) rfl) (fcons (ceS c_isIn mo3 ckX0_50 (by omega) rfl) fnil))) [34, 112] 33 rfl ?_
          refine And.intro (fun b38 => ?_) (fun b38 => ?_)
          · simp only [cP, cN, bI_0, Bool.not_eq_false, lt_nle, Decidable.not_not] at b38
            have hc4 : 64 ≤ c + 1 + e := (le64 (by omega) (by omega)).mp b38
            obtain rfl : e = 63 - c := by omega
            refine X.cut [(0, .ref b), (1, .int w), (2, .int x), (3, .int y), (4, .int u), (5, .int (nI c))] [(6, .int (nI (c + 1 + (63 - c))))] rfl ?_
            exact out x y u hw
          · simp only [cP, cN, bI_0, Bool.not_eq_false, lt_nle, Decidable.not_not] at b38
            have hc4 : c + 1 + e < 64 := nle64 b38 (by omega) (by omega)
            refine gF (by first | assumption | exact hx.obj | exact hx.bk | exact hx.rs | exact hx.sp | exact hx.tp | exact hx.w0.obj | exact hx.w0.arr _ rfl) ?_
            refine Exists.intro _ (Exists.intro _ (And.intro hx.w0 ?_))
            refine And.intro (fun b50 => ?_) (fun b50 => ?_)
            · simp only [cP, cN, bI_0, Bool.not_eq_false, lt_nle, Decidable.not_not] at b50
              exact ih2 (n - 1) (by omega) (e + 1) _ _ _ _ (by omega) (nI_1 (c + 1 + e)) (hw.f (hp.eng1 hc2 b50))
            · simp only [cP, cN, bI_0, Bool.not_eq_false, lt_nle, Decidable.not_not] at b50
              refine gF (by first | assumption | exact hx.obj | exact hx.bk | exact hx.rs | exact hx.sp | exact hx.tp | exact hx.w0.obj | exact hx.w0.arr _ rfl) ?_
              refine Exists.intro _ (Exists.intro _ (And.intro hx.w0 ?_))
              refine And.intro (fun b62 => ?_) (fun b62 => ?_)
              · simp only [cP, cN, bI_0, Bool.not_eq_false, lt_nle, Decidable.not_not] at b62
                exact ih2 (n - 1) (by omega) (e + 1) _ _ _ _ (by omega) (nI_1 (c + 1 + e)) (hw.f (hp.eng2 hc2 hc4 b50 b62))
              · simp only [cP, cN, bI_0, Bool.not_eq_false, lt_nle, Decidable.not_not] at b62
                refine Exists.intro _ (Exists.intro (c, c + 1 + e) (And.intro hx (And.intro ⟨rfl, rfl, hc2, hc4⟩ ?_)))
                intro v70 e70
                subst e70
                refine And.intro (fun b73 => ?_) (fun b73 => ?_)
                · simp only [cP, cN, bI_0, Bool.not_eq_false, lt_nle, Decidable.not_not] at b73
                  refine And.intro (fun b80 => ?_) (fun b80 => ?_)
                  · simp only [cP, cN, bI_0, Bool.not_eq_false, lt_nle, Decidable.not_not] at b80
                    refine And.intro (fun b91 => ?_) (fun b91 => ?_)
                    · simp only [cP, cN, bI_0, Bool.not_eq_false, lt_nle, Decidable.not_not] at b91
                      exact ih2 (n - 1) (by omega) (e + 1) _ _ _ _ (by omega) (nI_1 (c + 1 + e)) (hw.t1 (by rw [hp.eng hc2 hc4 b50 b62]; exact b73) b80)
                    · simp only [cP, cN, bI_0, Bool.not_eq_false, lt_nle, Decidable.not_not] at b91
                      exact absurd b91 b80
                  · simp only [cP, cN, bI_0, Bool.not_eq_false, lt_nle, Decidable.not_not] at b80
                    refine And.intro (fun b91 => ?_) (fun b91 => ?_)
                    · simp only [cP, cN, bI_0, Bool.not_eq_false, lt_nle, Decidable.not_not] at b91
                      exact absurd b80 b91
                    · simp only [cP, cN, bI_0, Bool.not_eq_false, lt_nle, Decidable.not_not] at b91
                      exact ih2 (n - 1) (by omega) (e + 1) _ _ _ _ (by omega) (nI_1 (c + 1 + e)) (hw.t0 (by rw [hp.eng hc2 hc4 b50 b62]; exact b73) hc2 hc4 b80)
                · simp only [cP, cN, bI_0, Bool.not_eq_false, lt_nle, Decidable.not_not] at b73
                  exact ih2 (n - 1) (by omega) (e + 1) _ _ _ _ (by omega) (nI_1 (c + 1 + e)) (hw.f (by rw [hp.eng hc2 hc4 b50 b62]; exact b73))
        exact inn (63 - c) 0 _ x y u (by omega) (nI_1 c) hv
    refine X.w wkX0_engaged (fcons (ceV x_areEngaged xmR2 ckX0_247 rfl xrR2 (by omega) rfl) (fcons (ceV c_hasCap moW1 ckX0_168 rfl rcW1 (by omega) rfl) (fcons (ceS c_isIn mo3 ckX0_50 (by omega) rfl) fnil))) [21] 15 rfl ?_
    refine And.intro (fun b6 => ?_) (fun b6 => ?_)
    · simp only [cP, cN, bI_0, Bool.not_eq_false, lt_nle, Decidable.not_not] at b6
      exact loop 64 0 _ _ _ _ rfl rfl b6 ⟨rfl, Or.inl ⟨rfl, rfl, rfl⟩⟩
    · simp only [cP, cN, bI_0, Bool.not_eq_false, lt_nle, Decidable.not_not] at b6
      exact And.intro (hs _ (by unfold egM; rw [b6]; rfl)) rfl
theorem RelX.bk {W : XW} {M : SS} (r : RelX W M) {i j : Nat} (hi : i < gN (W.S 0 0 17)) (hj : j < 4) : M 7 (4 * i + j) = W.S 0 (11 + i) j := r.w.2.2.2.1 12 i j hi hj
theorem RelX.ln {W : XW} {M : SS} (r : RelX W M) : Bd 100 (W.S 0 0 17) ∧ M 1 347 = W.S 0 0 17 := ⟨r.w.2.1 0, r.w.2.2.1 0⟩
theorem x_went : CtS mX0_went (4) (xR4 (fun (M : SS) ce0 r fr to W => RelX W M) (fun (M : SS) ce0 r fr to W => wntM M ce0 r fr to)) := by
  intro l G d hd as h z Q hs
  match as, hs with
  | [.ref b, .int ce0, .int r, .int fr, .int to], hs =>
    obtain ⟨W, M, hx, hp, hs⟩ := hs
    replace hp : RelX W M := hp
    replace hs : ∀ r9, r9 = wntM M ce0 r fr to → Q (some (.int r9)) h := hs
    have hf : FrX b h h := FrX.rf
    refine Ct.of rfl (Nat.le_of_ble_eq_true rfl) rfl ?_
    have hl := hp.ln.1
    have hl2 := hl.2
    have loop : ∀ (n c : Nat) (i : Int32) (v : Int32), c + n = gN (W.S 0 0 17) → i = nI c → (arM M ce0 r = true) → (fr ≤ to) → (v = foldN (wntB M ce0 r fr to) (fun i x => x ||| (1 : Int32) <<< (M 7 (4 * i) &&& 31)) 0 c) → X l G mX0_went (rmK d 0 0) (TGm G (fun v h' z' => Q v h' ∧ z' = z) 0 0) 0 0 23 [(0, .ref b), (1, .int ce0), (2, .int r), (3, .int fr), (4, .int to), (5, .int v), (6, .int i)] [] h z := by
      intro  n
      induction n using Nat.strongRecOn with
      | _ n ih =>
      intro c i v  hc hi h1 h3 hv
      subst hi
      refine X.w wkX0_went (fcons (ceS c_isIn mo3 ckX0_50 (by omega) rfl) (fcons (ceS c_far mo2 ckX0_220 (by omega) rfl) (fcons (ceV x_isRound xmR2 ckX0_234 rfl xrR2 (by omega) rfl) fnil))) [23] 37 rfl ?_
      refine gF (by first | assumption | exact hx.w0.arr _ (wC_row (show c < 100 by omega)) | exact hx.obj | exact hx.bk | exact hx.rs | exact hx.sp | exact hx.tp | exact hx.w0.obj | exact hx.w0.arr _ rfl) ?_
      refine gF (by first | assumption | exact hx.w0.arr _ (wC_row (show c < 100 by omega)) | exact hx.obj | exact hx.bk | exact hx.rs | exact hx.sp | exact hx.tp | exact hx.w0.obj | exact hx.w0.arr _ rfl) ?_
      refine And.intro (fun b32 => ?_) (fun b32 => ?_)
      · simp only [cP, cN, bI_0, Bool.not_eq_false, lt_nle, Decidable.not_not] at b32
        have hc2 : gN (W.S 0 0 17) ≤ c := (le64 (by omega) (by omega)).mp (hl.1 ▸ b32)
        have hc3 : c = gN (W.S 0 0 17) := by omega
        exact And.intro (hs _ (by rw [hv]; unfold wntM; rw [if_pos ⟨h1, h3⟩, hp.ln.2, hc3])) rfl
      · simp only [cP, cN, bI_0, Bool.not_eq_false, lt_nle, Decidable.not_not] at b32
        have hc2 : c < gN (W.S 0 0 17) := nle64 (k := gN (W.S 0 0 17)) (hl.1 ▸ b32) (by omega) (by omega)
        refine gF (by first | assumption | exact hx.w0.arr _ (wC_row (show c < 100 by omega)) | exact hx.obj | exact hx.bk | exact hx.rs | exact hx.sp | exact hx.tp | exact hx.w0.obj | exact hx.w0.arr _ rfl) ?_
        refine gF (by first | assumption | exact hx.w0.arr _ (wC_row (show c < 100 by omega)) | exact hx.obj | exact hx.bk | exact hx.rs | exact hx.sp | exact hx.tp | exact hx.w0.obj | exact hx.w0.arr _ rfl) ?_
        refine gR (by first | assumption | exact hx.w0.arr _ (wC_row (show c < 100 by omega)) | exact hx.obj | exact hx.bk | exact hx.rs | exact hx.sp | exact hx.tp | exact hx.w0.obj | exact hx.w0.arr _ rfl) (by decide) (by first | exact ixN (by omega) (by decide) | exact ixz (by omega) (by decide)) (by exact rfl) ?_
        refine gA (by first | assumption | exact hx.w0.arr _ (wC_row (show c < 100 by omega)) | exact hx.obj | exact hx.bk | exact hx.rs | exact hx.sp | exact hx.tp | exact hx.w0.obj | exact hx.w0.arr _ rfl) (ixE (j := 1) rfl (by decide) (by decide)) ?_
        refine And.intro (fun b56 => ?_) (fun b56 => ?_)
        · simp only [cP, cN, bI_0, Bool.not_eq_false, lt_nle, Decidable.not_not] at b56
          refine X.cut _ [(7, .ref _)] (by exact rfl) (ih (n - 1) (by omega) (c + 1) _ _ (by omega) (nI_1 c) h1 h3 (foldN_sf hv (show wntB M ce0 r fr to c = false from by simp only [wntB, hp.bk hc2 (show 1 < 4 by decide), hp.bk hc2 (show 3 < 4 by decide), lt_nle, b32, b56, decide_true, decide_false, Bool.and_true, Bool.true_and, Bool.and_false, Bool.false_and, Bool.or_true, Bool.true_or, Bool.or_false, Bool.false_or, not_true_eq_false, not_false_eq_true, Bool.not_true, Bool.not_false, decide_not, if_true, if_false, and_true, true_and, and_false, false_and, or_true, true_or, or_false, false_or, Bool.false_eq_true])))
        · simp only [cP, cN, bI_0, Bool.not_eq_false, lt_nle, Decidable.not_not] at b56
          refine gA (by first | assumption | exact hx.w0.arr _ (wC_row (show c < 100 by omega)) | exact hx.obj | exact hx.bk | exact hx.rs | exact hx.sp | exact hx.tp | exact hx.w0.obj | exact hx.w0.arr _ rfl) (ixE (j := 3) rfl (by decide) (by decide)) ?_
          refine And.intro (fun b69 => ?_) (fun b69 => ?_)
          · simp only [cP, cN, bI_0, Bool.not_eq_false, lt_nle, Decidable.not_not] at b69
            refine X.cut _ [(7, .ref _)] (by exact rfl) (ih (n - 1) (by omega) (c + 1) _ _ (by omega) (nI_1 c) h1 h3 (foldN_sf hv (show wntB M ce0 r fr to c = false from by simp only [wntB, hp.bk hc2 (show 1 < 4 by decide), hp.bk hc2 (show 3 < 4 by decide), lt_nle, b32, b56, b69, decide_true, decide_false, Bool.and_true, Bool.true_and, Bool.and_false, Bool.false_and, Bool.or_true, Bool.true_or, Bool.or_false, Bool.false_or, not_true_eq_false, not_false_eq_true, Bool.not_true, Bool.not_false, decide_not, if_true, if_false, and_true, true_and, and_false, false_and, or_true, true_or, or_false, false_or, Bool.false_eq_true])))
          · simp only [cP, cN, bI_0, Bool.not_eq_false, lt_nle, Decidable.not_not] at b69
            refine gA (by first | assumption | exact hx.w0.arr _ (wC_row (show c < 100 by omega)) | exact hx.obj | exact hx.bk | exact hx.rs | exact hx.sp | exact hx.tp | exact hx.w0.obj | exact hx.w0.arr _ rfl) (ixE (j := 0) rfl (by decide) (by decide)) ?_
            refine X.cut _ [(7, .ref _)] (by exact rfl) (ih (n - 1) (by omega) (c + 1) _ _ (by omega) (nI_1 c) h1 h3 (foldN_st hv (show wntB M ce0 r fr to c = true from by simp only [wntB, hp.bk hc2 (show 1 < 4 by decide), hp.bk hc2 (show 3 < 4 by decide), lt_nle, b32, b56, b69, decide_true, decide_false, Bool.and_true, Bool.true_and, Bool.and_false, Bool.false_and, Bool.or_true, Bool.true_or, Bool.or_false, Bool.false_or, not_true_eq_false, not_false_eq_true, Bool.not_true, Bool.not_false, decide_not, if_true, if_false, and_true, true_and, and_false, false_and, or_true, true_or, or_false, false_or, Bool.false_eq_true]) ?_))
            show _ = v ||| (1 : Int32) <<< (M 7 (4 * c + 0) &&& 31)
            rw [hp.bk hc2 (show 0 < 4 by decide)]
    refine X.w wkX0_went (fcons (ceS c_isIn mo3 ckX0_50 (by omega) rfl) (fcons (ceS c_far mo2 ckX0_220 (by omega) rfl) (fcons (ceV x_isRound xmR2 ckX0_234 rfl xrR2 (by omega) rfl) fnil))) [23] 14 rfl ?_
    refine Exists.intro _ (Exists.intro () (And.intro hx (And.intro trivial ?_)))
    intro v3 e3
    subst e3
    refine And.intro (fun b6 => ?_) (fun b6 => ?_)
    · simp only [cP, cN, bI_0, Bool.not_eq_false, lt_nle, Decidable.not_not] at b6
      exact And.intro (hs _ (by unfold wntM; rw [if_neg (fun q => absurd (b6.symm.trans ((hp.rd _ _).symm.trans q.1)) (by decide))])) rfl
    · simp only [cP, cN, bI_0, Bool.not_eq_false, lt_nle, Decidable.not_not] at b6
      refine And.intro (fun b12 => ?_) (fun b12 => ?_)
      · simp only [cP, cN, bI_0, Bool.not_eq_false, lt_nle, Decidable.not_not] at b12
        exact loop (gN (W.S 0 0 17)) 0 _ _ (by omega) rfl (by rw [hp.rd]; exact b6) b12 rfl
      · simp only [cP, cN, bI_0, Bool.not_eq_false, lt_nle, Decidable.not_not] at b12
        exact And.intro (hs _ (by unfold wntM; rw [if_neg (fun q => b12 q.2)])) rfl
