set_option maxRecDepth 100000
/-! TOKENS: what stands on a tape t of n signs from a place on -/
def chr (t : Nat → Int32) (n k : Nat) : Int32 := if k < n then t k else -1
def run (p : Int32 → Bool) (t : Nat → Int32) (n : Nat) : Nat → Nat → Nat
  | 0, k => k
  | f + 1, k => if p (chr t n k) = true then run p t n f (k + 1) else k
def runE (p : Int32 → Bool) (t : Nat → Int32) (n k : Nat) : Nat := run p t n (n - k) k
def wsB (c : Int32) : Bool := decide (c = 32) || decide (c = 10)
theorem run_t {p : Int32 → Bool} {t : Nat → Int32} {n k : Nat} (hk : k < n) (h : p (chr t n k) = true) : runE p t n k = runE p t n (k + 1) := by
  unfold runE
  rw [show n - k = (n - (k + 1)) + 1 from by omega, run, if_pos h]
theorem run_f {p : Int32 → Bool} {t : Nat → Int32} {n k : Nat} (h : p (chr t n k) = false) : runE p t n k = k := by
  unfold runE
  rcases Nat.eq_zero_or_pos (n - k) with e | e
  · rw [e]; rfl
  · rw [show n - k = (n - k - 1) + 1 from by omega, run, if_neg (by rw [h]; decide)]
theorem run_le {p : Int32 → Bool} {t : Nat → Int32} {n : Nat} : ∀ {d k : Nat}, n - k = d → k ≤ n → k ≤ runE p t n k ∧ runE p t n k ≤ n
  | 0, k, hd, hk => by
    unfold runE
    rw [hd]
    exact ⟨Nat.le_refl _, hk⟩
  | d + 1, k, hd, hk => by
    cases h : p (chr t n k) with
    | true =>
      rw [run_t (by omega) h]
      have := run_le (p := p) (t := t) (n := n) (d := d) (k := k + 1) (by omega) (by omega)
      omega
    | false => rw [run_f h]; omega
theorem chr_lt {t : Nat → Int32} {n k : Nat} {p : Int32 → Bool} (hp : p (-1) = false) (h : p (chr t n k) = true) : k < n := by
  unfold chr at h
  rcases Nat.lt_or_ge k n with e | e
  · exact e
  · rw [if_neg (by omega), hp] at h
    exact nomatch h
theorem chr_at {t : Nat → Int32} {n k : Nat} (h : k < n) : chr t n k = t k := if_pos h
theorem run_end {p : Int32 → Bool} {t : Nat → Int32} {n : Nat} (hp : p (-1) = false) : ∀ {d k : Nat}, n - k = d → k ≤ n → p (chr t n (runE p t n k)) = false
  | 0, k, hd, hk => by
    unfold runE
    rw [hd]
    show p (chr t n k) = false
    unfold chr
    rw [if_neg (by omega)]
    exact hp
  | d + 1, k, hd, hk => by
    cases h : p (chr t n k) with
    | true =>
      rw [run_t (by omega) h]
      exact run_end hp (d := d) (by omega) (by omega)
    | false => rw [run_f h]; exact h
/-! the words, as the model has them -/
def wtab (i : Nat) : Int32 := match i with
  | 0 => 32
  | 1 => 103
  | 2 => 114
  | 3 => 111
  | 4 => 119
  | 5 => 32
  | 6 => 119
  | 7 => 104
  | 8 => 101
  | 9 => 110
  | 10 => 32
  | 11 => 111
  | 12 => 114
  | 13 => 32
  | 14 => 97
  | 15 => 110
  | 16 => 100
  | 17 => 32
  | 18 => 110
  | 19 => 111
  | 20 => 116
  | 21 => 32
  | 22 => 119
  | 23 => 111
  | 24 => 114
  | 25 => 100
  | 26 => 32
  | 27 => 115
  | 28 => 105
  | 29 => 122
  | 30 => 101
  | 31 => 32
  | 32 => 97
  | 33 => 103
  | 34 => 101
  | 35 => 32
  | 36 => 100
  | 37 => 97
  | 38 => 109
  | 39 => 112
  | 40 => 32
  | 41 => 110
  | 42 => 101
  | 43 => 97
  | 44 => 114
  | 45 => 32
  | 46 => 108
  | 47 => 105
  | 48 => 107
  | 49 => 101
  | 50 => 32
  | 51 => 120
  | 52 => 32
  | 53 => 121
  | 54 => 32
  | 55 => 102
  | 56 => 114
  | 57 => 111
  | 58 => 122
  | 59 => 101
  | 60 => 110
  | 61 => 32
  | _ => 0
def wP (j : Nat) : Nat := match j with
  | 0 => 0
  | 1 => 5
  | 2 => 10
  | 3 => 13
  | 4 => 17
  | 5 => 21
  | 6 => 26
  | 7 => 31
  | 8 => 35
  | 9 => 40
  | 10 => 45
  | 11 => 50
  | 12 => 52
  | 13 => 54
  | 14 => 61
  | _ => 61
def wL (j : Nat) : Nat := match j with
  | 0 => 4
  | 1 => 4
  | 2 => 2
  | 3 => 3
  | 4 => 3
  | 5 => 4
  | 6 => 4
  | 7 => 3
  | 8 => 4
  | 9 => 4
  | 10 => 4
  | 11 => 1
  | 12 => 1
  | 13 => 6
  | _ => 0
/-- the word j stands between two places -/
def eqW (t : Nat → Int32) (a j : Nat) : Nat → Bool
  | 0 => true
  | i + 1 => eqW t a j i && decide (t (a + i) = wtab (wP j + 1 + i))
def isWB (t : Nat → Int32) (a b j : Nat) : Bool := decide (b - a = wL j) && eqW t a j (wL j)
def widF (t : Nat → Int32) (a b : Nat) : Nat → Nat → Int32
  | 0, _ => -1
  | f + 1, j => if isWB t a b j = true then nI j else widF t a b f (j + 1)
def wid (t : Nat → Int32) (a b : Nat) : Int32 := widF t a b 14 0
theorem eqW_all {t : Nat → Int32} {a j : Nat} : ∀ {m : Nat}, eqW t a j m = true ↔ ∀ i, i < m → t (a + i) = wtab (wP j + 1 + i)
  | 0 => ⟨fun _ i h => absurd h (Nat.not_lt_zero i), fun _ => rfl⟩
  | m + 1 => by
    unfold eqW
    rw [Bool.and_eq_true, eqW_all, decide_eq_true_eq]
    constructor
    · intro h i hi
      by_cases e : i = m
      · subst e; exact h.2
      · exact h.1 i (by omega)
    · intro h
      exact ⟨fun i hi => h i (by omega), h m (by omega)⟩
theorem wt_end : ∀ j, j < 14 → wtab (wP j + 1 + wL j) = 32 ∧ wP (j + 1) = wP j + 1 + wL j ∧ wP j + 1 + wL j ≤ 61 := by decide
theorem wt_in : ∀ j, j < 14 → ∀ i, i < wL j → ¬ wtab (wP j + 1 + i) = 32 := by decide
theorem wP_lt : ∀ j, j < 14 → wP j < 61 := by decide
theorem let_32 {c : Int32} (h : letB c = true) : ¬ c = 32 := by
  intro e
  subst e
  exact absurd h (by decide)
def WtO (S : SS) : Prop := ∀ i, i < 62 → S 9 i = wtab i
theorem k_wordAt : CtS mX3_wordAt 1 (mR2 (fun (a : Nat × Nat) u w S => u = nI a.1 ∧ w = nI a.2 ∧ a.1 ≤ a.2 ∧ a.2 ≤ 400 ∧ WtO S ∧ ∀ x, a.1 ≤ x → x < a.2 → letB (S 8 x) = true) (fun (a : Nat × Nat) u w S => wid (S 8) a.1 a.2)) := by
  intro l G d hd as h z Q hs
  match as, hs with
  | [.ref b, .int u, .int w], hs =>
    obtain ⟨S, a, hm, hp, hs⟩ := hs
    replace hp : u = nI a.1 ∧ w = nI a.2 ∧ a.1 ≤ a.2 ∧ a.2 ≤ 400 ∧ WtO S ∧ ∀ x, a.1 ≤ x → x < a.2 → letB (S 8 x) = true := hp
    replace hs : ∀ r9, r9 = wid (S 8) a.1 a.2 → Q (some (.int r9)) h := hs
    have hf : FrM b h h := FrM.rf
    refine Ct.of rfl (Nat.le_of_ble_eq_true rfl) rfl ?_
    obtain ⟨A, B⟩ := a
    dsimp only at hp hs
    obtain ⟨rfl, rfl, hAB, hB, hW, hlet⟩ := hp
    have j93 : ∀ (j : Nat) (x5 : Int32), j < 14 → (∀ J : LL, X l G mX3_wordAt (rmK d 0 0) (TGm G (fun v h' z' => Q v h' ∧ z' = z) 0 0) 0 0 5 ([(0, .ref b), (1, .int (nI A)), (2, .int (nI B)), (3, .int (nI j)), (4, .int (nI (wP (j + 1))))] ++ J) [] h z) → ∀ (n i : Nat) (k : Int32), i + n = wL j → k = nI (wP j + 1 + i) → X l G mX3_wordAt (rmK d 0 0) (TGm G (fun v h' z' => Q v h' ∧ z' = z) 0 0) 0 0 93 [(0, .ref b), (1, .int (nI A)), (2, .int (nI B)), (3, .int (nI j)), (4, .int k), (5, .int x5)] [] h z := by
      intro j x5 hj kk n
      have he := wt_end j hj
      induction n with
      | zero =>
        intro i k hi hk
        subst hk
        obtain rfl : i = wL j := by omega
        have e9 : S 9 (wP j + 1 + wL j) = 32 := by rw [hW _ (by omega)]; exact he.1
        refine X.w wkX3_wordAt fnil [93, 5] 9 rfl ?_
        refine gF (by first | assumption | exact hm.obj | exact hm.arr _ rfl) ?_
        refine gA (by first | assumption | exact hm.obj | exact hm.arr _ rfl) (by first | exact ixN (by omega) (by decide) | exact ixz (by omega) (by decide) | exact ixa (a := 64) rfl (by omega) (by decide) | exact ixa (a := 128) rfl (by omega) (by decide) | exact ixa (a := 192) rfl (by omega) (by decide) | exact ixa (a := 256) rfl (by omega) (by decide) | exact ixa (a := 262) rfl (by omega) (by decide) | exact ixa (a := 268) rfl (by omega) (by decide) | exact ixa (a := 274) rfl (by omega) (by decide) | exact ixa (a := 348) rfl (by omega) (by decide) | exact ixa (a := 400) rfl (by omega) (by decide)) ?_
        refine And.intro (fun b102 => ?_) (fun b102 => ?_)
        · simp only [cP, cN, bI_0, Bool.not_eq_false, lt_nle, Decidable.not_not] at b102
          rw [← he.2.1]
          exact kk [(5, .int x5)]
        · simp only [cP, cN, bI_0, Bool.not_eq_false, lt_nle, Decidable.not_not] at b102
          exact absurd e9 b102
      | succ n ih =>
        intro i k hi hk
        subst hk
        have e9 : ¬ S 9 (wP j + 1 + i) = 32 := by rw [hW _ (by omega)]; exact wt_in j hj i (by omega)
        refine X.w wkX3_wordAt fnil [93, 5] 13 rfl ?_
        refine gF (by first | assumption | exact hm.obj | exact hm.arr _ rfl) ?_
        refine gA (by first | assumption | exact hm.obj | exact hm.arr _ rfl) (by first | exact ixN (by omega) (by decide) | exact ixz (by omega) (by decide) | exact ixa (a := 64) rfl (by omega) (by decide) | exact ixa (a := 128) rfl (by omega) (by decide) | exact ixa (a := 192) rfl (by omega) (by decide) | exact ixa (a := 256) rfl (by omega) (by decide) | exact ixa (a := 262) rfl (by omega) (by decide) | exact ixa (a := 268) rfl (by omega) (by decide) | exact ixa (a := 274) rfl (by omega) (by decide) | exact ixa (a := 348) rfl (by omega) (by decide) | exact ixa (a := 400) rfl (by omega) (by decide)) ?_
        refine And.intro (fun b102 => ?_) (fun b102 => ?_)
        · simp only [cP, cN, bI_0, Bool.not_eq_false, lt_nle, Decidable.not_not] at b102
          exact absurd b102 e9
        · simp only [cP, cN, bI_0, Bool.not_eq_false, lt_nle, Decidable.not_not] at b102
          exact ih (i + 1) _ (by omega) (nI_1 (wP j + 1 + i))
    have j19 : ∀ (j : Nat), j < 14 → (isWB (S 8) A B j = true → nI j = wid (S 8) A B) → (isWB (S 8) A B j = false → ∀ J : LL, X l G mX3_wordAt (rmK d 0 0) (TGm G (fun v h' z' => Q v h' ∧ z' = z) 0 0) 0 0 5 ([(0, .ref b), (1, .int (nI A)), (2, .int (nI B)), (3, .int (nI j)), (4, .int (nI (wP (j + 1))))] ++ J) [] h z) → ∀ (n i : Nat) (x : Int32), i + n = wL j → x = nI i → A + i ≤ B → (∀ q, q < i → S 8 (A + q) = wtab (wP j + 1 + q)) → X l G mX3_wordAt (rmK d 0 0) (TGm G (fun v h' z' => Q v h' ∧ z' = z) 0 0) 0 0 19 [(0, .ref b), (1, .int (nI A)), (2, .int (nI B)), (3, .int (nI j)), (4, .int (nI (wP j))), (5, .int x)] [] h z := by
      intro j hj kt kf n
      have he := wt_end j hj
      have hpl := wP_lt j hj
      induction n using Nat.strongRecOn with
      | _ n ih =>
      intro i x hi hx hAi hq
      subst hx
      have hW9 : S 9 (wP j + 1 + i) = wtab (wP j + 1 + i) := hW _ (by omega)
      have go87 : isWB (S 8) A B j = false → X l G mX3_wordAt (rmK d 0 0) (TGm G (fun v h' z' => Q v h' ∧ z' = z) 0 0) 0 0 87 [(0, .ref b), (1, .int (nI A)), (2, .int (nI B)), (3, .int (nI j)), (4, .int (nI (wP j))), (5, .int (nI i))] [] h z := by
        intro hf0
        refine X.w wkX3_wordAt fnil [93] 6 rfl ?_
        exact j93 j _ hj (kf hf0) (wL j) 0 _ (by omega) (nI_1 (wP j))
      have go60 : (A + i = B → wtab (wP j + 1 + i) = 32 → isWB (S 8) A B j = true) → (A + i = B → ¬ wtab (wP j + 1 + i) = 32 → isWB (S 8) A B j = false) → (¬ A + i = B → isWB (S 8) A B j = false) → X l G mX3_wordAt (rmK d 0 0) (TGm G (fun v h' z' => Q v h' ∧ z' = z) 0 0) 0 0 60 [(0, .ref b), (1, .int (nI A)), (2, .int (nI B)), (3, .int (nI j)), (4, .int (nI (wP j))), (5, .int (nI i))] [] h z := by
        intro g1 g2 g3
        refine X.w wkX3_wordAt fnil [87] 18 rfl ?_
        refine And.intro (fun b65 => ?_) (fun b65 => ?_)
        · simp only [cP, cN, bI_0, Bool.not_eq_false, lt_nle, Decidable.not_not] at b65
          have hne : ¬ A + i = B := fun q => b65 (by rw [nI_add, q])
          exact go87 (g3 hne)
        · simp only [cP, cN, bI_0, Bool.not_eq_false, lt_nle, Decidable.not_not] at b65
          have heq : A + i = B := (nI_eq (by omega) (by omega)).mp (by rw [← nI_add]; exact b65)
          refine gF (by first | assumption | exact hm.obj | exact hm.arr _ rfl) ?_
          refine gA (by first | assumption | exact hm.obj | exact hm.arr _ rfl) (ixE (j := wP j + 1 + i) (by rw [nI_1, nI_add]) (by omega) (by decide)) ?_
          refine And.intro (fun b82 => ?_) (fun b82 => ?_)
          · simp only [cP, cN, bI_0, Bool.not_eq_false, lt_nle, Decidable.not_not] at b82
            exact go87 (g2 heq (by rw [← hW9]; exact b82))
          · simp only [cP, cN, bI_0, Bool.not_eq_false, lt_nle, Decidable.not_not] at b82
            exact And.intro (hs _ (kt (g1 heq (by rw [← hW9]; exact b82)))) rfl
      have yes : A + i = B → i = wL j → isWB (S 8) A B j = true := by
        intro q1 q2
        unfold isWB
        rw [decide_eq_true (by omega : B - A = wL j), Bool.true_and, eqW_all]
        intro q hq3
        exact hq q (by omega)
      have no1 : B - A ≠ wL j → isWB (S 8) A B j = false := by
        intro q1
        unfold isWB
        rw [decide_eq_false q1, Bool.false_and]
      have hil : i < wL j → ¬ wtab (wP j + 1 + i) = 32 := fun q => wt_in j hj i q
      refine X.w wkX3_wordAt fnil [19, 60] 27 rfl ?_
      refine And.intro (fun b24 => ?_) (fun b24 => ?_)
      · simp only [cP, cN, bI_0, Bool.not_eq_false, lt_nle, Decidable.not_not] at b24
        have h24 : B ≤ A + i := (nI_leI (by omega) (by omega)).mp (by rw [← nI_add]; exact b24)
        refine go60 (fun q1 q2 => yes q1 ?_) (fun q1 q2 => no1 ?_) (fun q1 => no1 (by omega))
        · rcases Nat.lt_or_ge i (wL j) with e | e
          · exact absurd q2 (hil e)
          · omega
        · rcases Nat.lt_or_ge i (wL j) with e | e
          · omega
          · rw [show i = wL j from by omega] at q2
            exact absurd he.1 q2
      · simp only [cP, cN, bI_0, Bool.not_eq_false, lt_nle, Decidable.not_not] at b24
        have h24 : A + i < B := by
          have h9 := b24
          rw [nI_add, nI_leI (by omega) (by omega)] at h9
          omega
        have hl9 := hlet (A + i) (by omega) h24
        refine gF (by first | assumption | exact hm.obj | exact hm.arr _ rfl) ?_
        refine gA (by first | assumption | exact hm.obj | exact hm.arr _ rfl) (ixE (j := wP j + 1 + i) (by rw [nI_1, nI_add]) (by omega) (by decide)) ?_
        refine gF (by first | assumption | exact hm.obj | exact hm.arr _ rfl) ?_
        refine gA (by first | assumption | exact hm.obj | exact hm.arr _ rfl) (ixE (j := A + i) (nI_add A i) (by omega) (by decide)) ?_
        refine And.intro (fun b48 => ?_) (fun b48 => ?_)
        · simp only [cP, cN, bI_0, Bool.not_eq_false, lt_nle, Decidable.not_not] at b48
          refine go60 (fun q1 => by omega) (fun q1 => by omega) (fun _ => ?_)
          rcases Nat.lt_or_ge i (wL j) with e | e
          · cases hb : isWB (S 8) A B j with
            | false => rfl
            | true =>
              unfold isWB at hb
              rw [Bool.and_eq_true, eqW_all] at hb
              exact absurd (by rw [hW9]; exact (hb.2 i e).symm) b48
          · exact no1 (by omega)
        · simp only [cP, cN, bI_0, Bool.not_eq_false, lt_nle, Decidable.not_not] at b48
          rcases Nat.lt_or_ge i (wL j) with e | e
          · refine ih (n - 1) (by omega) (i + 1) _ (by omega) (nI_1 i) (by omega) ?_
            intro q hq9
            by_cases eq : q = i
            · subst eq; rw [← hW9]; exact b48.symm
            · exact hq q (by omega)
          · rw [hW9, show i = wL j from by omega, he.1] at b48
            rw [show i = wL j from by omega] at hl9
            exact absurd b48.symm (let_32 hl9)
    have out : ∀ (n j : Nat) (x k : Int32), j + n = 14 → x + 1 = nI j → k = nI (wP j) → widF (S 8) A B n j = wid (S 8) A B → ∀ J : LL, X l G mX3_wordAt (rmK d 0 0) (TGm G (fun v h' z' => Q v h' ∧ z' = z) 0 0) 0 0 5 ([(0, .ref b), (1, .int (nI A)), (2, .int (nI B)), (3, .int x), (4, .int k)] ++ J) [] h z := by
      intro n
      induction n with
      | zero =>
        intro j x k hj hx hk hw J
        subst hk
        obtain rfl : j = 14 := by omega
        refine X.cut _ J rfl ?_
        refine X.w wkX3_wordAt fnil [19] 6 rfl ?_
        refine And.intro (fun b9 => ?_) (fun b9 => ?_)
        · simp only [cP, cN, bI_0, Bool.not_eq_false, lt_nle, Decidable.not_not] at b9
          exact And.intro (hs _ (by rw [← hw]; rfl)) rfl
        · simp only [cP, cN, bI_0, Bool.not_eq_false, lt_nle, Decidable.not_not] at b9
          exact absurd (by decide) b9
      | succ n ih =>
        intro j x k hj hx hk hw J
        subst hk
        refine X.cut _ J rfl ?_
        have hpl := wP_lt j (by omega)
        refine X.w wkX3_wordAt fnil [19] 11 rfl ?_
        refine And.intro (fun b9 => ?_) (fun b9 => ?_)
        · simp only [cP, cN, bI_0, Bool.not_eq_false, lt_nle, Decidable.not_not] at b9
          exact absurd ((nI_leI (a := 61) (b := wP j) (by decide) (by omega)).mp b9) (by omega)
        · simp only [cP, cN, bI_0, Bool.not_eq_false, lt_nle, Decidable.not_not] at b9
          have h9 := j19 j (by omega) (fun q => by rw [← hw, widF, if_pos q]) (fun q J => ih (j + 1) (nI j) (nI (wP (j + 1))) (by omega) (nI_1 j) rfl (by rw [← hw, widF, if_neg (by rw [q]; decide)]) J) (wL j) 0 0 (by omega) rfl (by omega) (fun q hq => absurd hq (Nat.not_lt_zero q))
          rw [← hx] at h9
          exact h9
    refine X.w wkX3_wordAt fnil [5] 6 rfl ?_
    exact out 14 0 _ _ rfl rfl rfl rfl []
