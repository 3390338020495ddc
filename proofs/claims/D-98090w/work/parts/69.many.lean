set_option maxRecDepth 100000
/-! READING CONDITIONS: the parse as such; what waits in the model -/
/-- mode 0: one; 1: the rest of all, behind acc; 2: the rest of any; 3: any; 4: all -/
def pC (t : Nat → Int32) (n : Nat) : Nat → Nat → Nat → Code9 → Nat → PR
  | 0, _, _, _, _ => .inl (0, 0)
  | f + 1, 0, o, _, k => if wrd t n k 4 = true then (if o = 8 then .inl (3, tS t n k) else match pC t n f 0 (o + 1) [] (tN t n k) with
      | .inl e => .inl e
      | .inr q => .inr (q.1 ++ [(9, 0)], q.2))
    else if sgn t n k 40 = true then (if o = 8 then .inl (3, tS t n k) else match pC t n f 3 (o + 1) [] (tN t n k) with
      | .inl e => .inl e
      | .inr q => if sgn t n q.2 41 = true then .inr (q.1, tN t n q.2) else .inl (1, tS t n q.2))
    else pCmp t n k
  | f + 1, 1, o, acc, k => if wrd t n k 3 = true then (match pC t n f 0 o [] (tN t n k) with
      | .inl e => .inl e
      | .inr q => pC t n f 1 o (acc ++ q.1 ++ [(10, 0)]) q.2)
    else .inr (acc, k)
  | f + 1, 2, o, acc, k => if wrd t n k 2 = true then (match pC t n f 4 o [] (tN t n k) with
      | .inl e => .inl e
      | .inr q => pC t n f 2 o (acc ++ q.1 ++ [(11, 0)]) q.2)
    else .inr (acc, k)
  | f + 1, 3, o, _, k => match pC t n f 4 o [] k with
      | .inl e => .inl e
      | .inr q => pC t n f 2 o q.1 q.2
  | f + 1, _ + 4, o, _, k => match pC t n f 0 o [] k with
      | .inl e => .inl e
      | .inr q => pC t n f 1 o q.1 q.2
def fa (j : Nat) : Bool := mem1 [21, 22, 23, 24, 32, 33, 35, 36, 37] j
def RFa (m : Nat) (S S' : SS) : Prop := (∀ o, o ≠ 0 → o ≠ 13 → o ≠ 14 → o ≠ 15 → S' o = S o) ∧ (∀ j, fa j = false → S' 0 j = S 0 j) ∧ ∀ j, j < 400 + m → S' 13 j = S 13 j ∧ S' 14 j = S 14 j
theorem fa_fz {j : Nat} (h : fa j = false) : fz j = false := mem1_sub (os := [21, 22, 23, 24, 32, 36, 37]) (ps := [21, 22, 23, 24, 32, 33, 35, 36, 37]) (by decide) h
theorem RFr.a {m : Nat} {S S' : SS} (h : RFr m S S') : RFa m S S' := ⟨fun o h0 h1 h2 _ => h.1 o h0 h1 h2, fun j hj => h.2.1 j (fa_fz hj), h.2.2⟩
theorem RFa.rf {m : Nat} {S : SS} : RFa m S S := RFr.rf.a
theorem RFa.tr {m m1 : Nat} {S S1 S2 : SS} (a : RFa m S S1) (c : RFa m1 S1 S2) (h : m ≤ m1) : RFa m S S2 :=
  ⟨fun o h0 h1 h2 h3 => (c.1 o h0 h1 h2 h3).trans (a.1 o h0 h1 h2 h3), fun j hj => (c.2.1 j hj).trans (a.2.1 j hj), fun j hj => ⟨((c.2.2 j (by omega)).1).trans (a.2.2 j hj).1, ((c.2.2 j (by omega)).2).trans (a.2.2 j hj).2⟩⟩
theorem RFa.e8 {m : Nat} {S S1 : SS} (a : RFa m S S1) : S1 8 = S 8 := a.1 8 (by decide) (by decide) (by decide) (by decide)
theorem RFa.up {m o k : Nat} {S : SS} {x : Int32} (h : o = 15 ∨ (o = 0 ∧ fa k = true)) : RFa m S (up2 S o k x) := by
  refine ⟨fun q h0 h1 h2 h3 => up2_n (by omega), fun j hj => ?_, fun j _ => ?_⟩
  · rw [up2_ap, if_neg (fun q => ?_)]
    rcases h with h | h
    · omega
    · rw [q.2, h.2] at hj
      exact nomatch hj
  · rw [up2_n (by omega), up2_n (by omega)]
    exact ⟨rfl, rfl⟩
theorem RdO.fa {S S1 : SS} {n m : Nat} (h : RdO S n) (r : RFa m S S1) : RdO S1 n := by
  refine ⟨(r.2.1 20 rfl).trans h.1, h.2.1, ?_, ?_⟩
  · intro i hi
    rw [r.1 9 (by decide) (by decide) (by decide) (by decide)]
    exact h.2.2.1 i hi
  · intro i hi
    rw [r.e8]
    exact h.2.2.2 i hi
theorem CodeAt.fa {S1 S2 : SS} {m m1 : Nat} {c : Code9} (h : CodeAt S1 (400 + m) c) (r : RFa m1 S1 S2) (hm : m + c.length ≤ m1) : CodeAt S2 (400 + m) c := by
  intro j o v hj
  have hl : j < c.length := (List.getElem?_eq_some_iff.mp hj).1
  have := r.2.2 (400 + m + j) (by omega)
  rw [this.1, this.2]
  exact h j o v hj
def Sa (n m : Nat) (c : Code9) (k w : Nat) (S S1 : SS) : Prop := RFa m S S1 ∧ TkF (S1 0) (S 8) n k ∧ S1 0 32 = nI (m + c.length) ∧ CodeAt S1 (400 + m) c ∧ k ≤ n ∧ m + c.length + w ≤ k
def RaQ (r : PR) (S : SS) (n m : Nat) (v : Int32) (S' : SS) : Prop := RFa m S S' ∧ match r with
  | .inl e => v = -1 ∧ S' 0 36 = e.1 ∧ S' 0 37 = nI e.2
  | .inr q => v = 0 ∧ TkF (S' 0) (S 8) n q.2 ∧ S' 0 32 = nI (m + q.1.length) ∧ CodeAt S' (400 + m) q.1
section SA
variable {n m k w : Nat} {c : Code9} {S S1 S2 : SS}
theorem Sa.p (h : Sa n m c k w S S1) (ro : RdO S n) : RdP S1 k n (m + c.length) := by
  obtain ⟨h1, h2, h3, h4, h5, h6⟩ := h
  refine ⟨⟨RFr.rf, ?_, h3, CodeAt.nil, h5, by show m + c.length + 0 + 0 ≤ k; omega⟩, ro.fa h1⟩
  rw [h1.e8]
  exact h2
theorem Sa.call {d : Code9} {k2 : Nat} {v : Int32} (h : Sa n m c k w S S1) (q : RdQ (.inr (d, k2)) S1 n (m + c.length) v S2) (h1 : k < k2) (h2 : k2 ≤ n) (h3 : d.length ≤ k2 - k) : v = 0 ∧ Sa n m (c ++ d) k2 w S S2 := by
  obtain ⟨a1, a2, a3, a4, a5, a6⟩ := h
  obtain ⟨b1, b2, b3, b4, b5⟩ := q
  refine ⟨b2, a1.tr b1.a (by omega), ?_, ?_, ?_, h2, ?_⟩
  · rw [← a1.e8]
    exact b3
  · rw [b4, List.length_append, Nat.add_assoc]
  · exact (a4.fa b1.a (Nat.le_refl _)).app (by rw [Nat.add_assoc]; exact b5)
  · rw [List.length_append]
    omega
theorem Sa.read {f : Nat → Int32} (h : Sa n m c k w S S1) (hk : ¬ tK (S 8) n k = 0) (h1 : FO S1 f) (h2 : TkF f (S1 8) n (tN (S 8) n k)) : Sa n m c (tN (S 8) n k) (w + 1) S (setF S1 0 f) := by
  obtain ⟨a1, a2, a3, a4, a5, a6⟩ := h
  have ha := tN_adv a5 hk
  refine ⟨a1.tr (RFr.fo (m := m) h1).a (Nat.le_refl _), ?_, ?_, ?_, ha.2, by omega⟩
  · rw [a1.e8] at h2
    exact h2
  · exact (h1 32 (Or.inr (by decide))).trans a3
  · exact a4.eq rfl rfl
theorem Sa.sg (h : Sa n m c k w S S1) (x : Int32) : signM S1 x = sgn (S 8) n k x := by
  obtain ⟨-, ⟨-, -, h3, h4⟩, -⟩ := h
  unfold signM sgn tK tV
  rw [h3]
  by_cases e : tkK (S 8) n (stP (S 8) n k) = 4
  · rw [h4 (by rw [e]; decide) (by rw [e]; decide)]
  · rw [decide_eq_false e, Bool.false_and, Bool.false_and]
theorem Sa.wd (h : Sa n m c k w S S1) (x : Int32) : wordM S1 x = wrd (S 8) n k x := by
  obtain ⟨-, ⟨-, -, h3, h4⟩, -⟩ := h
  unfold wordM wrd tK tV
  rw [h3]
  by_cases e : tkK (S 8) n (stP (S 8) n k) = 2
  · rw [h4 (by rw [e]; decide) (by rw [e]; decide)]
  · rw [decide_eq_false e, Bool.false_and, Bool.false_and]
theorem Sa.err {e : Int32} (h : Sa n m c k w S S1) : RaQ (.inl (e, tS (S 8) n k)) S n m (-1) (up2 (up2 S1 0 36 e) 0 37 (S1 0 22)) :=
  ⟨h.1.tr RFr.err.a (Nat.le_refl _), rfl, rfl, h.2.1.2.1⟩
theorem Sa.fail {v : Int32} {e : Int32 × Nat} (h : Sa n m c k w S S1) (q : RdQ (.inl e) S1 n (m + c.length) v S2) : v = -1 ∧ RaQ (.inl e) S n m (-1) S2 :=
  ⟨q.2.1, h.1.tr q.1.a (by omega), rfl, q.2.2⟩
theorem Sa.pos (h : Sa n m c k w S S1) : S1 0 21 = nI (tN (S 8) n k) := h.2.1.1
theorem Sa.up {o j : Nat} {x : Int32} (h : Sa n m c k w S S1) (h1 : o = 15 ∨ (o = 0 ∧ (j = 33 ∨ j = 35))) : Sa n m c k w S (up2 S1 o j x) := by
  obtain ⟨a1, ⟨a2, a7, a8, a9⟩, a3, a4, a5, a6⟩ := h
  have e : ∀ q, q ≠ 33 → q ≠ 35 → up2 S1 o j x 0 q = S1 0 q := by
    intro q h3 h5
    rw [up2_ap, if_neg (by omega)]
  refine ⟨a1.tr (RFa.up (m := m) (by rcases h1 with h | ⟨h, rfl | rfl⟩; exact Or.inl h; exact Or.inr ⟨h, rfl⟩; exact Or.inr ⟨h, rfl⟩)) (Nat.le_refl _), ⟨?_, ?_, ?_, ?_⟩, ?_, a4.eq (up2_n (by omega)) (up2_n (by omega)), a5, a6⟩
  · rw [e 21 (by decide) (by decide)]; exact a2
  · rw [e 22 (by decide) (by decide)]; exact a7
  · rw [e 23 (by decide) (by decide)]; exact a8
  · rw [e 24 (by decide) (by decide)]; exact a9
  · rw [e 32 (by decide) (by decide)]; exact a3
end SA
/-! what waits -/
def PA (S : SS) (P : List Int32) : Prop := S 0 35 = nI P.length ∧ ∀ j x, P[j]? = some x → S 15 (P.length - 1 - j) = x
theorem PA.push {S : SS} {P : List Int32} {x : Int32} (h : PA S P) : PA (up2 (up2 S 15 P.length x) 0 35 (nI P.length + 1)) (x :: P) := by
  refine ⟨?_, fun j y hj => ?_⟩
  · rw [up2_ap, if_pos ⟨rfl, rfl⟩, nI_1]; rfl
  · rw [up2_n (by decide), up2_ap]
    match j, hj with
    | 0, hj =>
      cases hj
      rw [if_pos ⟨rfl, by show P.length + 1 - 1 - 0 = _; omega⟩]
    | j + 1, hj =>
      have hl : j < P.length := by
        have h9 := (List.getElem?_eq_some_iff.mp hj).1
        have h8 : (x :: P).length = P.length + 1 := rfl
        omega
      rw [if_neg (by show ¬ (15 = 15 ∧ P.length + 1 - 1 - (j + 1) = P.length); omega), show (x :: P).length - 1 - (j + 1) = P.length - 1 - j from by show P.length + 1 - 1 - (j + 1) = _; omega]
      exact h.2 j y hj
theorem PA.pop {S : SS} {P : List Int32} {x : Int32} (h : PA S (x :: P)) : PA (up2 S 0 35 (nI P.length)) P := by
  refine ⟨by rw [up2_ap, if_pos ⟨rfl, rfl⟩], fun j y hj => ?_⟩
  rw [up2_n (by decide)]
  have := h.2 (j + 1) y hj
  rw [show (x :: P).length - 1 - (j + 1) = P.length - 1 - j from by show P.length + 1 - 1 - (j + 1) = _; omega] at this
  exact this
theorem PA.eq {S S' : SS} {P : List Int32} (h : PA S P) (h1 : S' 0 35 = S 0 35) (h2 : S' 15 = S 15) : PA S' P := ⟨h1.trans h.1, fun j x hj => by rw [h2]; exact h.2 j x hj⟩
def ldn (w : Int32) : List Int32 → Nat
  | [] => 0
  | x :: r => if x = w then ldn w r + 1 else 0
def rep (w : Nat) : Nat → Code9
  | 0 => []
  | j + 1 => rep w j ++ [(w, 0)]
theorem rep_len (w : Nat) : ∀ j, (rep w j).length = j
  | 0 => rfl
  | j + 1 => by rw [rep, List.length_append, rep_len w j]; rfl
theorem rep_cons (w : Nat) : ∀ j, [(w, (0 : Int32))] ++ rep w j = rep w (j + 1)
  | 0 => rfl
  | j + 1 => by
    rw [rep, ← List.append_assoc, rep_cons w j]
    rfl
theorem ldn_le (w : Int32) : ∀ P, ldn w P ≤ P.length
  | [] => Nat.le_refl _
  | x :: r => by
    unfold ldn
    have := ldn_le w r
    split
    · show _ ≤ r.length + 1; omega
    · omega
/-- how settles leaves the model: what waits, the codes, what is open -/
def StR (w : Nat) (P : List Int32) (a o : Nat) (S S' : SS) : Prop := PA S' (P.drop (ldn (nI w) P)) ∧ S' 0 32 = nI (a + ldn (nI w) P) ∧ CodeAt S' (400 + a) (rep w (ldn (nI w) P)) ∧ S' 0 33 = (if w = 9 then nI (o - ldn (nI w) P) else nI o) ∧ RFa a S S' ∧ S' 15 = S 15 ∧ (∀ j, 20 < j → j < 25 → S' 0 j = S 0 j)
theorem k_settles : CtS mX3_settles 2 (mV1 (fun (a : Nat × List Int32 × Nat × Nat) u S => u = nI a.1 ∧ a.1 < 12 ∧ PA S a.2.1 ∧ a.2.1.length ≤ 39 ∧ S 0 32 = nI a.2.2.1 ∧ a.2.2.1 + a.2.1.length ≤ 400 ∧ S 0 33 = nI a.2.2.2 ∧ (a.1 = 9 → ldn 9 a.2.1 ≤ a.2.2.2)) (fun (a : Nat × List Int32 × Nat × Nat) u S S' => StR a.1 a.2.1 a.2.2.1 a.2.2.2 S S')) := by
  intro l G d hd as h z Q hs
  match as, hs with
  | [.ref b, .int u], hs =>
    obtain ⟨S, a, hm, hp, hs⟩ := hs
    replace hp : u = nI a.1 ∧ a.1 < 12 ∧ PA S a.2.1 ∧ a.2.1.length ≤ 39 ∧ S 0 32 = nI a.2.2.1 ∧ a.2.2.1 + a.2.1.length ≤ 400 ∧ S 0 33 = nI a.2.2.2 ∧ (a.1 = 9 → ldn 9 a.2.1 ≤ a.2.2.2) := hp
    replace hs : ∀ S' h', (StR a.1 a.2.1 a.2.2.1 a.2.2.2 S S') → IsMod G b S' h' → FrM b h h' → Q none h' := hs
    have hf : FrM b h h := FrM.rf
    refine Ct.of rfl (Nat.le_of_ble_eq_true rfl) rfl ?_
    obtain ⟨w, P, a0, o⟩ := a
    dsimp only at hp hs
    obtain ⟨rfl, hw, hPA, hP39, h32, h400, h33, hld⟩ := hp
    have loop : ∀ (P1 : List Int32) (j : Nat) (S1 : SS) (h1 : AH), P.drop j = P1 → ldn (nI w) P = j + ldn (nI w) P1 → j + P1.length = P.length → PA S1 P1 → S1 0 32 = nI (a0 + j) → CodeAt S1 (400 + a0) (rep w j) → S1 0 33 = (if w = 9 then nI (o - j) else nI o) → RFa a0 S S1 → S1 15 = S 15 → (∀ q, 20 < q → q < 25 → S1 0 q = S 0 q) → IsMod G b S1 h1 → FrM b h h1 → X l G mX3_settles (rmK d 0 0) (TGm G (fun v h' z' => Q v h' ∧ z' = z) 0 0) 0 0 0 [(0, .ref b), (1, .int (nI w))] [] h1 z := by
      intro P1
      induction P1 with
      | nil =>
        intro j S1 h1 hdr hln hl hPA h32 hC h33 hR h15 h24 hm hf
        have e35 : S1 0 35 = 0 := hPA.1
        refine X.w wkX3_settles (fcons (ceV k_emits mmV2 ckX3_200 rfl mrV2 (by omega) rfl) fnil) [0] 5 rfl ?_
        refine gF (by first | assumption | exact hm.obj | exact hm.arr _ rfl) ?_
        refine And.intro (fun b4 => ?_) (fun b4 => ?_)
        · simp only [cP, cN, bI_0, Bool.not_eq_false, lt_nle, Decidable.not_not] at b4
          refine And.intro (hs _ _ ?_ hm hf) rfl
          have e : ldn (nI w) P = j := hln
          unfold StR
          rw [e, hdr]
          exact ⟨hPA, h32, hC, h33, hR, h15, h24⟩
        · simp only [cP, cN, bI_0, Bool.not_eq_false, lt_nle, Decidable.not_not] at b4
          exact absurd (by rw [e35]; exact Int32.le_refl _) b4
      | cons x P1 ih =>
        intro j S1 h1 hdr hln hl hPA h32 hC h33 hR h15 h24 hm hf
        have hl1 : (x :: P1).length = P1.length + 1 := rfl
        have e35 : S1 0 35 = nI (P1.length + 1) := hPA.1
        have ex : S1 15 P1.length = x := by
          have := hPA.2 0 x rfl
          rw [show (x :: P1).length - 1 - 0 = P1.length from by rw [hl1]; omega] at this
          exact this
        refine X.w wkX3_settles (fcons (ceV k_emits mmV2 ckX3_200 rfl mrV2 (by omega) rfl) fnil) [0] 34 rfl ?_
        refine gF (by first | assumption | exact hm.obj | exact hm.arr _ rfl) ?_
        refine And.intro (fun b4 => ?_) (fun b4 => ?_)
        · simp only [cP, cN, bI_0, Bool.not_eq_false, lt_nle, Decidable.not_not] at b4
          exact absurd b4 (by rw [e35]; exact nI_nle (by omega) (by omega))
        · simp only [cP, cN, bI_0, Bool.not_eq_false, lt_nle, Decidable.not_not] at b4
          refine gF (by first | assumption | exact hm.obj | exact hm.arr _ rfl) ?_
          refine gF (by first | assumption | exact hm.obj | exact hm.arr _ rfl) ?_
          refine gA (by first | assumption | exact hm.obj | exact hm.arr _ rfl) (ixE (j := P1.length) (by rw [e35]; exact nI_pred P1.length) (by omega) (by decide)) ?_
          refine And.intro (fun b19 => ?_) (fun b19 => ?_)
          · simp only [cP, cN, bI_0, Bool.not_eq_false, lt_nle, Decidable.not_not] at b19
            have hx : ¬ x = nI w := by rw [← ex]; exact b19
            refine And.intro (hs _ _ ?_ hm hf) rfl
            have e : ldn (nI w) P = j := by rw [hln, ldn, if_neg hx]; rfl
            unfold StR
            rw [e, hdr]
            exact ⟨hPA, h32, hC, h33, hR, h15, h24⟩
          · simp only [cP, cN, bI_0, Bool.not_eq_false, lt_nle, Decidable.not_not] at b19
            have hx : x = nI w := by rw [← ex]; exact b19
            have hl2 : ldn (nI w) (x :: P1) = ldn (nI w) P1 + 1 := by rw [ldn, if_pos hx]
            replace hPA := hPA.pop
            refine gF (by first | assumption | exact hm.obj | exact hm.arr _ rfl) ?_
            refine pF0 (okV_W rfl) (by first | assumption | exact hm.obj | exact hm.arr _ rfl) (Nat.le_of_ble_eq_true rfl) (by first | exact hm.N | exact hm.No _) ?_
            intro h29 e29
            have hm := hm.u0 e29 rfl; have hf := hf.u0 e29
            replace hm : IsMod G b (up2 S1 0 35 (S1 0 35 - 1)) h29 := hm
            rw [e35, nI_pred] at hm
            refine Exists.intro _ (Exists.intro (a0 + j) (And.intro hm (And.intro ⟨h32, by omega⟩ ?_)))
            intro S35 h35 p35 hm hf35
            have hf := hf.tr hf35
            (try dsimp only at p35)
            subst p35
            refine And.intro (fun b41 => ?_) (fun b41 => ?_)
            · simp only [cP, cN, bI_0, Bool.not_eq_false, lt_nle, Decidable.not_not] at b41
              have hdr2 : P.drop (j + 1) = P1 := by
                rw [← List.drop_drop, hdr]
                rfl
              have hR2 : RFa a0 S (emF (up2 S1 0 35 (nI P1.length)) (a0 + j) (nI w) 0) := (hR.tr (RFa.up (m := a0) (Or.inr ⟨rfl, rfl⟩)) (Nat.le_refl _)).tr (RFr.em (m := a0) (by omega)).a (Nat.le_refl _)
              have hC2 : CodeAt (emF (up2 S1 0 35 (nI P1.length)) (a0 + j) (nI w) 0) (400 + a0) (rep w (j + 1)) := by
                rw [rep]
                refine CodeAt.app ?_ ?_
                · refine CodeAt.fr (S1 := up2 S1 0 35 (nI P1.length)) (hC.eq rfl rfl) (RFr.em (m := a0 + j) (Nat.le_refl _)) (by rw [rep_len]; omega)
                · rw [rep_len, Nat.add_assoc]
                  exact em_code
              have hw9 : ¬ w = 9 := fun q => b41 (by rw [q]; rfl)
              refine ih (j + 1) (emF (up2 S1 0 35 (nI P1.length)) (a0 + j) (nI w) 0) _ hdr2 (by rw [hln, hl2]; omega) (by rw [hl1] at hl; omega) (hPA.eq rfl rfl) ((nI_1 (a0 + j)).trans rfl) hC2 ?_ hR2 h15 (fun q h1 h2 => ?_) hm hf
              · rw [if_neg hw9] at h33 ⊢
                exact h33
              · rw [← h24 q h1 h2]
                unfold emF
                rw [up2_ap, if_neg (by omega), up2_n (by decide), up2_n (by decide), up2_ap, if_neg (by omega)]
            · simp only [cP, cN, bI_0, Bool.not_eq_false, lt_nle, Decidable.not_not] at b41
              refine gF (by first | assumption | exact hm.obj | exact hm.arr _ rfl) ?_
              refine pF0 (okV_W rfl) (by first | assumption | exact hm.obj | exact hm.arr _ rfl) (Nat.le_of_ble_eq_true rfl) (by first | exact hm.N | exact hm.No _) ?_
              intro h51 e51
              have hm := hm.u0 e51 rfl; have hf := hf.u0 e51
              have hdr2 : P.drop (j + 1) = P1 := by
                rw [← List.drop_drop, hdr]
                rfl
              have hR2 : RFa a0 S (emF (up2 S1 0 35 (nI P1.length)) (a0 + j) (nI w) 0) := (hR.tr (RFa.up (m := a0) (Or.inr ⟨rfl, rfl⟩)) (Nat.le_refl _)).tr (RFr.em (m := a0) (by omega)).a (Nat.le_refl _)
              have hC2 : CodeAt (emF (up2 S1 0 35 (nI P1.length)) (a0 + j) (nI w) 0) (400 + a0) (rep w (j + 1)) := by
                rw [rep]
                refine CodeAt.app ?_ ?_
                · refine CodeAt.fr (S1 := up2 S1 0 35 (nI P1.length)) (hC.eq rfl rfl) (RFr.em (m := a0 + j) (Nat.le_refl _)) (by rw [rep_len]; omega)
                · rw [rep_len, Nat.add_assoc]
                  exact em_code
              have hw9 : w = 9 := (nI_eq (by omega) (by decide)).mp b41
              have hjo : j + 1 ≤ o := by
                have h8 := hld hw9
                subst hw9
                rw [show (9 : Int32) = nI 9 from rfl, hln, hl2] at h8
                omega
              have h33' : emF (up2 S1 0 35 (nI P1.length)) (a0 + j) (nI w) 0 0 33 = nI (o - j) := by
                rw [if_pos hw9] at h33
                exact h33
              replace hm : IsMod G b (up2 (emF (up2 S1 0 35 (nI P1.length)) (a0 + j) (nI w) 0) 0 33 (emF (up2 S1 0 35 (nI P1.length)) (a0 + j) (nI w) 0 0 33 - 1)) h51 := hm
              rw [h33', show (1 : Int32) = nI 1 from rfl, pk_sub (by omega)] at hm
              refine ih (j + 1) (up2 (emF (up2 S1 0 35 (nI P1.length)) (a0 + j) (nI w) 0) 0 33 (nI (o - j - 1))) _ hdr2 (by rw [hln, hl2]; omega) (by rw [hl1] at hl; omega) (hPA.eq rfl rfl) ((nI_1 (a0 + j)).trans rfl) (hC2.eq rfl rfl) ?_ (hR2.tr (RFa.up (m := a0) (Or.inr ⟨rfl, rfl⟩)) (Nat.le_refl _)) h15 (fun q h1 h2 => ?_) hm hf
              · rw [if_pos hw9, up2_ap, if_pos ⟨rfl, rfl⟩]
                congr 1
              · rw [← h24 q h1 h2, up2_ap, if_neg (by omega)]
                unfold emF
                rw [up2_ap, if_neg (by omega), up2_n (by decide), up2_n (by decide), up2_ap, if_neg (by omega)]
    exact loop P 0 S h rfl (by omega) (by omega) hPA h32 CodeAt.nil (by split <;> exact h33) RFa.rf rfl (fun _ _ _ => rfl) hm hf
