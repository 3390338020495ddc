set_option maxRecDepth 100000
/-! READING NUMBERS: the parse as such, over places of the tape; and the model's -/
abbrev PR : Type := Sum (Int32 × Nat) (Code9 × Nat)
def tS (t : Nat → Int32) (n k : Nat) : Nat := stP t n k
def tK (t : Nat → Int32) (n k : Nat) : Int32 := tkK t n (stP t n k)
def tV (t : Nat → Int32) (n k : Nat) : Int32 := tkV t n (stP t n k)
def tN (t : Nat → Int32) (n k : Nat) : Nat := tkN t n (stP t n k)
def sgn (t : Nat → Int32) (n k : Nat) (c : Int32) : Bool := decide (tK t n k = 4) && decide (tV t n k = c)
def wrd (t : Nat → Int32) (n k : Nat) (w : Int32) : Bool := decide (tK t n k = 2) && decide (tV t n k = w)
def pUnit (t : Nat → Int32) (n k : Nat) : PR := if tK t n k = 3 then .inr ([(0, tV t n k)], tN t n k) else if tK t n k = 2 ∧ 5 ≤ tV t n k then .inr ([(1, tV t n k - 5)], tN t n k) else .inl (1, tS t n k)
def pProdL (t : Nat → Int32) (n : Nat) : Nat → Code9 → Nat → PR
  | 0, c, k => .inr (c, k)
  | f + 1, c, k => if sgn t n k 42 = true then (match pUnit t n (tN t n k) with
      | .inl e => .inl e
      | .inr q => pProdL t n f (c ++ q.1 ++ [(4, 0)]) q.2)
    else if sgn t n k 47 = true then (if tK t n (tN t n k) = 3 then (if tV t n (tN t n k) = 0 then .inl (2, tS t n (tN t n k)) else pProdL t n f (c ++ [(0, tV t n (tN t n k))] ++ [(5, 0)]) (tN t n (tN t n k))) else .inl (1, tS t n (tN t n k)))
    else .inr (c, k)
def pProd (t : Nat → Int32) (n k : Nat) : PR := match pUnit t n k with
  | .inl e => .inl e
  | .inr q => pProdL t n (n + 1) q.1 q.2
def pSumL (t : Nat → Int32) (n : Nat) : Nat → Code9 → Nat → PR
  | 0, c, k => .inr (c, k)
  | f + 1, c, k => if sgn t n k 43 = true ∨ sgn t n k 45 = true then (match pProd t n (tN t n k) with
      | .inl e => .inl e
      | .inr q => pSumL t n f (c ++ q.1 ++ [(if tV t n k = 43 then 2 else 3, 0)]) q.2)
    else .inr (c, k)
def pSum (t : Nat → Int32) (n k : Nat) : PR := match pProd t n k with
  | .inl e => .inl e
  | .inr q => pSumL t n (n + 1) q.1 q.2
def pCmp (t : Nat → Int32) (n k : Nat) : PR := match pSum t n k with
  | .inl e => .inl e
  | .inr q => if sgn t n q.2 60 = true ∨ sgn t n q.2 61 = true ∨ sgn t n q.2 62 = true then (match pSum t n (tN t n q.2) with
      | .inl e => .inl e
      | .inr r => .inr (q.1 ++ r.1 ++ [(if tV t n q.2 = 60 then 6 else if tV t n q.2 = 61 then 7 else 8, 0)], r.2))
    else .inl (1, tS t n q.2)
/-! places move on -/
theorem tN_adv {t : Nat → Int32} {n k : Nat} (hk : k ≤ n) (h : ¬ tK t n k = 0) : k < tN t n k ∧ tN t n k ≤ n := by
  have h1 : k ≤ stP t n k ∧ stP t n k ≤ n := run_le rfl hk
  unfold tK at h
  unfold tN
  generalize stP t n k = s at h h1
  have h2 : ¬ chr t n s = -1 := fun q => h (by unfold tkK; rw [if_pos q])
  have h3 : s < n := by
    rcases Nat.lt_or_ge s n with e | e
    · exact e
    · exact absurd (by unfold chr; rw [if_neg (by omega)]) h2
  unfold tkN
  rw [if_neg h2]
  split
  · have := run_le (p := letB) (t := t) (n := n) (d := n - (s + 1)) (k := s + 1) rfl (by omega)
    omega
  · split
    · have := run_le (p := digB) (t := t) (n := n) (d := n - (s + 1)) (k := s + 1) rfl (by omega)
      omega
    · omega
theorem sgn_K {t : Nat → Int32} {n k : Nat} {c : Int32} (h : sgn t n k c = true) : tK t n k = 4 ∧ tV t n k = c := by
  unfold sgn at h
  rw [Bool.and_eq_true, decide_eq_true_eq, decide_eq_true_eq] at h
  exact h
theorem wrd_K {t : Nat → Int32} {n k : Nat} {c : Int32} (h : wrd t n k c = true) : tK t n k = 2 ∧ tV t n k = c := by
  unfold wrd at h
  rw [Bool.and_eq_true, decide_eq_true_eq, decide_eq_true_eq] at h
  exact h
theorem sgn_adv {t : Nat → Int32} {n k : Nat} {c : Int32} (hk : k ≤ n) (h : sgn t n k c = true) : k < tN t n k ∧ tN t n k ≤ n := tN_adv hk (by rw [(sgn_K h).1]; decide)
theorem wrd_adv {t : Nat → Int32} {n k : Nat} {c : Int32} (hk : k ≤ n) (h : wrd t n k c = true) : k < tN t n k ∧ tN t n k ≤ n := tN_adv hk (by rw [(wrd_K h).1]; decide)
theorem wid_rng (t : Nat → Int32) (a b : Nat) : ∀ (f j : Nat), j + f ≤ 14 → widF t a b f j = -1 ∨ ∃ q, q < 14 ∧ widF t a b f j = nI q
  | 0, _, _ => Or.inl rfl
  | f + 1, j, h => by
    unfold widF
    split
    · exact Or.inr ⟨j, by omega, rfl⟩
    · exact wid_rng t a b f (j + 1) (by omega)
/-- the number of a word -/
theorem tV_word {t : Nat → Int32} {n k : Nat} (h : tK t n k = 2) : ∃ q, q < 14 ∧ tV t n k = nI q := by
  unfold tK at h
  unfold tV
  generalize stP t n k = s at h
  unfold tkK at h
  unfold tkV
  by_cases h1 : chr t n s = -1
  · rw [if_pos h1] at h; exact absurd h (by decide)
  · rw [if_neg h1] at h
    by_cases h2 : letB (chr t n s) = true
    · rw [if_pos h2] at h ⊢
      by_cases h3 : wid t s (runE letB t n (s + 1)) = -1
      · rw [if_pos h3] at h; exact absurd h (by decide)
      · rcases wid_rng t s (runE letB t n (s + 1)) 14 0 (by decide) with e | e
        · exact absurd e h3
        · exact e
    · rw [if_neg h2] at h
      split at h
      · split at h <;> exact absurd h (by decide)
      · split at h <;> exact absurd h (by decide)
theorem Ar9.up : ∀ {a c : Nat} {x : Code9}, Ar9 a x → a ≤ c → Ar9 c x
  | 0, _, _, w, _ => w.elim
  | a + 1, 0, _, _, h => absurd h (by omega)
  | a + 1, c + 1, x, w, h => by
    rcases w with e | e | ⟨o, c1, c2, h1, h2, h3, h4, h5⟩
    · exact Or.inl e
    · exact Or.inr (Or.inl e)
    · exact Or.inr (Or.inr ⟨o, c1, c2, h1, h2, Ar9.up h3 (by omega), Ar9.up h4 (by omega), h5⟩)
theorem Ar9.two {c d : Code9} {o : Nat} (ho : o = 2 ∨ o = 3 ∨ o = 4 ∨ o = 5) (h5 : o = 5 → ∃ v, d = [(0, v)] ∧ ¬ v = 0) (h1 : Ar9 c.length c) (h2 : Ar9 d.length d) : Ar9 (c ++ d ++ [(o, 0)]).length (c ++ d ++ [(o, 0)]) := by
  have e : (c ++ d ++ [(o, (0 : Int32))]).length = (c.length + d.length) + 1 := by rw [List.length_append, List.length_append]; rfl
  rw [e]
  exact Or.inr (Or.inr ⟨o, c, d, ho, h5, h1.up (by omega), h2.up (by omega), rfl⟩)
/-- what a parse of a number gives -/
def PG (n k : Nat) (r : PR) : Prop := ∀ d k2, r = .inr (d, k2) → k < k2 ∧ k2 ≤ n ∧ d.length ≤ k2 - k ∧ Ar9 d.length d
theorem len3 (c d : Code9) (o : Nat × Int32) : (c ++ d ++ [o]).length = c.length + d.length + 1 := by rw [List.length_append, List.length_append]; rfl
theorem pUnit_g {t : Nat → Int32} {n k : Nat} (hk : k ≤ n) : PG n k (pUnit t n k) := by
  intro d k2 h
  unfold pUnit at h
  split at h
  · rename_i h3
    cases h
    have := tN_adv hk (show ¬ tK t n k = 0 by rw [h3]; decide)
    exact ⟨this.1, this.2, by show 1 ≤ _; omega, Or.inl ⟨_, rfl⟩⟩
  · split at h
    · rename_i h2
      cases h
      have := tN_adv hk (show ¬ tK t n k = 0 by rw [h2.1]; decide)
      refine ⟨this.1, this.2, by show 1 ≤ _; omega, Or.inr (Or.inl ?_)⟩
      obtain ⟨q, hq, e⟩ := tV_word h2.1
      have h5 := h2.2
      rw [e, show (5 : Int32) = nI 5 from rfl, nI_leI (by decide) (by omega)] at h5
      exact ⟨q - 5, by omega, by rw [e, show (5 : Int32) = nI 5 from rfl, pk_sub h5]⟩
    · cases h
theorem pProdL_g {t : Nat → Int32} {n k : Nat} : ∀ (f : Nat) (c : Code9) (k1 : Nat), k < k1 → k1 ≤ n → c.length ≤ k1 - k → Ar9 c.length c → PG n k (pProdL t n f c k1)
  | 0, c, k1, h1, h2, h3, h4 => by
    intro d k2 h
    cases h
    exact ⟨h1, h2, h3, h4⟩
  | f + 1, c, k1, h1, h2, h3, h4 => by
    intro d k2 h
    unfold pProdL at h
    split at h
    · rename_i hs
      have ha := sgn_adv h2 hs
      cases hu : pUnit t n (tN t n k1) with
      | inl e => rw [hu] at h; cases h
      | inr q =>
        rw [hu] at h
        obtain ⟨c2, k3⟩ := q
        have hg := pUnit_g (t := t) ha.2 c2 k3 hu
        exact pProdL_g f _ k3 (by omega) hg.2.1 (by rw [len3]; omega) (Ar9.two (by omega) (by omega) h4 hg.2.2.2) d k2 h
    · split at h
      · rename_i hs
        have ha := sgn_adv h2 hs
        split at h
        · rename_i h33
          split at h
          · cases h
          · rename_i hv
            have hb := tN_adv ha.2 (show ¬ tK t n (tN t n k1) = 0 by rw [h33]; decide)
            exact pProdL_g f _ _ (by omega) hb.2 (by rw [len3]; show _ + 1 + 1 ≤ _; omega) (Ar9.two (by omega) (fun _ => ⟨_, rfl, hv⟩) h4 (Or.inl ⟨_, rfl⟩)) d k2 h
        · cases h
      · cases h
        exact ⟨h1, h2, h3, h4⟩
theorem pProd_g {t : Nat → Int32} {n k : Nat} (hk : k ≤ n) : PG n k (pProd t n k) := by
  intro d k2 h
  unfold pProd at h
  cases hu : pUnit t n k with
  | inl e => rw [hu] at h; cases h
  | inr q =>
    rw [hu] at h
    obtain ⟨c2, k3⟩ := q
    have hg := pUnit_g hk c2 k3 hu
    exact pProdL_g _ _ _ hg.1 hg.2.1 hg.2.2.1 hg.2.2.2 d k2 h
theorem pSumL_g {t : Nat → Int32} {n k : Nat} : ∀ (f : Nat) (c : Code9) (k1 : Nat), k < k1 → k1 ≤ n → c.length ≤ k1 - k → Ar9 c.length c → PG n k (pSumL t n f c k1)
  | 0, c, k1, h1, h2, h3, h4 => by
    intro d k2 h
    cases h
    exact ⟨h1, h2, h3, h4⟩
  | f + 1, c, k1, h1, h2, h3, h4 => by
    intro d k2 h
    unfold pSumL at h
    split at h
    · rename_i hs
      have ha : k1 < tN t n k1 ∧ tN t n k1 ≤ n := hs.elim (sgn_adv h2) (sgn_adv h2)
      cases hu : pProd t n (tN t n k1) with
      | inl e => rw [hu] at h; cases h
      | inr q =>
        rw [hu] at h
        obtain ⟨c2, k3⟩ := q
        have hg := pProd_g (t := t) ha.2 c2 k3 hu
        exact pSumL_g f _ k3 (by omega) hg.2.1 (by rw [len3]; omega) (Ar9.two (by split <;> omega) (by split <;> omega) h4 hg.2.2.2) d k2 h
    · cases h
      exact ⟨h1, h2, h3, h4⟩
theorem pSum_g {t : Nat → Int32} {n k : Nat} (hk : k ≤ n) : PG n k (pSum t n k) := by
  intro d k2 h
  unfold pSum at h
  cases hu : pProd t n k with
  | inl e => rw [hu] at h; cases h
  | inr q =>
    rw [hu] at h
    obtain ⟨c2, k3⟩ := q
    have hg := pProd_g hk c2 k3 hu
    exact pSumL_g _ _ _ hg.1 hg.2.1 hg.2.2.1 hg.2.2.2 d k2 h
/-! the model's side -/
def fz (j : Nat) : Bool := mem1 [21, 22, 23, 24, 32, 36, 37] j
def RFr (m : Nat) (S S' : SS) : Prop := (∀ o, o ≠ 0 → o ≠ 13 → o ≠ 14 → S' o = S o) ∧ (∀ j, fz j = false → S' 0 j = S 0 j) ∧ ∀ j, j < 400 + m → S' 13 j = S 13 j ∧ S' 14 j = S 14 j
theorem RFr.rf {m : Nat} {S : SS} : RFr m S S := ⟨fun _ _ _ _ => rfl, fun _ _ => rfl, fun _ _ => ⟨rfl, rfl⟩⟩
theorem RFr.tr {m m1 : Nat} {S S1 S2 : SS} (a : RFr m S S1) (c : RFr m1 S1 S2) (h : m ≤ m1) : RFr m S S2 :=
  ⟨fun o h0 h1 h2 => (c.1 o h0 h1 h2).trans (a.1 o h0 h1 h2), fun j hj => (c.2.1 j hj).trans (a.2.1 j hj), fun j hj => ⟨((c.2.2 j (by omega)).1).trans (a.2.2 j hj).1, ((c.2.2 j (by omega)).2).trans (a.2.2 j hj).2⟩⟩
theorem RFr.fo {m : Nat} {S : SS} {f : Nat → Int32} (h : FO S f) : RFr m S (setF S 0 f) := by
  refine ⟨fun o h0 _ _ => setF_n h0, fun j hj => ?_, fun j _ => ⟨rfl, rfl⟩⟩
  show f j = _
  apply h
  by_cases e : j < 21 ∨ 24 < j
  · exact e
  · exfalso
    have : j = 21 ∨ j = 22 ∨ j = 23 ∨ j = 24 := by omega
    rcases this with rfl | rfl | rfl | rfl <;> exact absurd hj (by decide)
theorem RFr.em {m m1 : Nat} {S : SS} {o x : Int32} (h : m ≤ m1) : RFr m S (emF S m1 o x) := by
  refine ⟨fun o h0 h1 h2 => ?_, fun j hj => ?_, fun j hj => ⟨?_, ?_⟩⟩
  · unfold emF
    rw [up2_n h0, up2_n h2, up2_n h1]
  · unfold emF
    rw [up2_ap, if_neg (fun q => by rw [q.2] at hj; exact absurd hj (by decide))]
    rfl
  · unfold emF
    rw [up2_n (by decide), up2_n (by decide), up2_ap, if_neg (by omega)]
  · unfold emF
    rw [up2_n (by decide), up2_ap, if_neg (by omega), up2_n (by decide)]
theorem RFr.err {m : Nat} {S : SS} {e : Int32} : RFr m S (up2 (up2 S 0 36 e) 0 37 (S 0 22)) := by
  refine ⟨fun o h0 _ _ => by rw [up2_n h0, up2_n h0], fun j hj => ?_, fun j _ => ⟨rfl, rfl⟩⟩
  rw [up2_ap, if_neg (fun q => by rw [q.2] at hj; exact absurd hj (by decide)), up2_ap, if_neg (fun q => by rw [q.2] at hj; exact absurd hj (by decide))]
theorem RdO.fr {S S1 : SS} {n m : Nat} (h : RdO S n) (r : RFr m S S1) : RdO S1 n := by
  refine ⟨(r.2.1 20 rfl).trans h.1, h.2.1, ?_, ?_⟩
  · intro i hi
    rw [r.1 9 (by decide) (by decide) (by decide)]
    exact h.2.2.1 i hi
  · intro i hi
    rw [r.1 8 (by decide) (by decide) (by decide)]
    exact h.2.2.2 i hi
theorem CodeAt.fr {S1 S2 : SS} {m m1 : Nat} {c : Code9} (h : CodeAt S1 (400 + m) c) (r : RFr m1 S1 S2) (hm : m + c.length ≤ m1) : CodeAt S2 (400 + m) c := by
  intro j o v hj
  have hl : j < c.length := (List.getElem?_eq_some_iff.mp hj).1
  have := r.2.2 (400 + m + j) (by omega)
  rw [this.1, this.2]
  exact h j o v hj
theorem CodeAt.app {S : SS} {a : Nat} {c d : Code9} (h1 : CodeAt S a c) (h2 : CodeAt S (a + c.length) d) : CodeAt S a (c ++ d) := by
  intro j o v hj
  rcases Nat.lt_or_ge j c.length with e | e
  · rw [List.getElem?_append_left e] at hj
    exact h1 j o v hj
  · rw [List.getElem?_append_right e] at hj
    have := h2 (j - c.length) o v hj
    rw [show a + c.length + (j - c.length) = a + j from by omega] at this
    exact this
/-- the model has read up to k, and has laid down c from m on; w codes may wait -/
def Sd (n m : Nat) (c : Code9) (k w : Nat) (S S1 : SS) : Prop := RFr m S S1 ∧ TkF (S1 0) (S 8) n k ∧ S1 0 32 = nI (m + c.length) ∧ CodeAt S1 (400 + m) c ∧ k ≤ n ∧ m + c.length + w ≤ k
def RdP (S : SS) (k n m : Nat) : Prop := Sd n m [] k 0 S S ∧ RdO S n
def RdQ (r : PR) (S : SS) (n m : Nat) (v : Int32) (S' : SS) : Prop := RFr m S S' ∧ match r with
  | .inl e => v = -1 ∧ S' 0 36 = e.1 ∧ S' 0 37 = nI e.2
  | .inr q => v = 0 ∧ TkF (S' 0) (S 8) n q.2 ∧ S' 0 32 = nI (m + q.1.length) ∧ CodeAt S' (400 + m) q.1
theorem CodeAt.nil {S : SS} {a : Nat} : CodeAt S a [] := fun j o v h => by simp at h
section SD
variable {n m k w : Nat} {c : Code9} {S S1 S2 : SS}
theorem Sd.p (h : Sd n m c k w S S1) (ro : RdO S n) : RdP S1 k n (m + c.length) := by
  obtain ⟨h1, h2, h3, h4, h5, h6⟩ := h
  refine ⟨⟨RFr.rf, ?_, h3, CodeAt.nil, h5, by show m + c.length + 0 + 0 ≤ k; omega⟩, ro.fr h1⟩
  rw [h1.1 8 (by decide) (by decide) (by decide)]
  exact h2
theorem Sd.call {d : Code9} {k2 : Nat} {v : Int32} (h : Sd n m c k w S S1) (q : RdQ (.inr (d, k2)) S1 n (m + c.length) v S2) (h1 : k < k2) (h2 : k2 ≤ n) (h3 : d.length ≤ k2 - k) : v = 0 ∧ Sd n m (c ++ d) k2 w S S2 := by
  obtain ⟨a1, a2, a3, a4, a5, a6⟩ := h
  obtain ⟨b1, b2, b3, b4, b5⟩ := q
  refine ⟨b2, a1.tr b1 (by omega), ?_, ?_, ?_, h2, ?_⟩
  · rw [← a1.1 8 (by decide) (by decide) (by decide)]
    exact b3
  · rw [b4, List.length_append, Nat.add_assoc]
  · exact (a4.fr b1 (Nat.le_refl _)).app (by rw [Nat.add_assoc]; exact b5)
  · rw [List.length_append]
    omega
theorem Sd.read {f : Nat → Int32} (h : Sd n m c k w S S1) (hk : ¬ tK (S 8) n k = 0) (h1 : FO S1 f) (h2 : TkF f (S1 8) n (tN (S 8) n k)) : Sd n m c (tN (S 8) n k) (w + 1) S (setF S1 0 f) := by
  obtain ⟨a1, a2, a3, a4, a5, a6⟩ := h
  have ha := tN_adv a5 hk
  refine ⟨a1.tr (RFr.fo (m := m) h1) (Nat.le_refl _), ?_, ?_, ?_, ha.2, by omega⟩
  · rw [a1.1 8 (by decide) (by decide) (by decide)] at h2
    exact h2
  · exact (h1 32 (Or.inr (by decide))).trans a3
  · exact a4.eq rfl rfl
theorem em_code {a o : Nat} {x : Int32} : CodeAt (emF S1 a (nI o) x) (400 + a) [(o, x)] := by
  intro j o' v' hj
  match j, hj with
  | 0, hj =>
    cases hj
    unfold emF
    refine ⟨?_, ?_⟩
    · rw [up2_n (by decide), up2_n (by decide), up2_ap, if_pos ⟨rfl, by omega⟩]
    · rw [up2_n (by decide), up2_ap, if_pos ⟨rfl, by omega⟩]
theorem Sd.emit {o : Nat} {x : Int32} (h : Sd n m c k (w + 1) S S1) : Sd n m (c ++ [(o, x)]) k w S (emF S1 (m + c.length) (nI o) x) := by
  obtain ⟨a1, a2, a3, a4, a5, a6⟩ := h
  refine ⟨a1.tr (RFr.em (m := m + c.length) (Nat.le_refl _)) (by omega), a2, ?_, ?_, a5, ?_⟩
  · show nI (m + c.length) + 1 = _
    rw [nI_1, List.length_append]
    rfl
  · refine (a4.fr (RFr.em (m := m + c.length) (Nat.le_refl _)) (Nat.le_refl _)).app ?_
    rw [Nat.add_assoc]
    exact em_code
  · rw [List.length_append]
    show m + (c.length + 1) + w ≤ k
    omega
theorem Sd.sg (h : Sd n m c k w S S1) (x : Int32) : signM S1 x = sgn (S 8) n k x := by
  obtain ⟨-, ⟨-, -, h3, h4⟩, -⟩ := h
  unfold signM sgn tK tV
  rw [h3]
  by_cases e : tkK (S 8) n (stP (S 8) n k) = 4
  · rw [h4 (by rw [e]; decide) (by rw [e]; decide)]
  · rw [decide_eq_false e, Bool.false_and, Bool.false_and]
theorem Sd.wd (h : Sd n m c k w S S1) (x : Int32) : wordM S1 x = wrd (S 8) n k x := by
  obtain ⟨-, ⟨-, -, h3, h4⟩, -⟩ := h
  unfold wordM wrd tK tV
  rw [h3]
  by_cases e : tkK (S 8) n (stP (S 8) n k) = 2
  · rw [h4 (by rw [e]; decide) (by rw [e]; decide)]
  · rw [decide_eq_false e, Bool.false_and, Bool.false_and]
theorem Sd.val (h : Sd n m c k w S S1) (h0 : ¬ tK (S 8) n k = 0) (h1 : ¬ tK (S 8) n k = 1) : S1 0 24 = tV (S 8) n k := h.2.1.2.2.2 h0 h1
theorem Sd.tok (h : Sd n m c k w S S1) : S1 0 23 = tK (S 8) n k := h.2.1.2.2.1
theorem Sd.lt (h : Sd n m c k (w + 1) S S1) (ro : RdO S n) : m + c.length < 400 := by
  have h5 := h.2.2.2.2.1
  have h6 := h.2.2.2.2.2
  have := ro.2.1
  omega
theorem Sd.q {k0 : Nat} (h : Sd n m c k w S S1) : RdQ (.inr (c, k)) S n m 0 S1 := ⟨h.1, rfl, h.2.1, h.2.2.1, h.2.2.2.1⟩
theorem Sd.err {e : Int32} (h : Sd n m c k w S S1) : RdQ (.inl (e, tS (S 8) n k)) S n m (-1) (up2 (up2 S1 0 36 e) 0 37 (S1 0 22)) :=
  ⟨h.1.tr RFr.err (Nat.le_refl _), rfl, rfl, h.2.1.2.1⟩
theorem Sd.fail {v : Int32} {e : Int32 × Nat} (h : Sd n m c k w S S1) (q : RdQ (.inl e) S1 n (m + c.length) v S2) : v = -1 ∧ RdQ (.inl e) S n m (-1) S2 :=
  ⟨q.2.1, h.1.tr q.1 (by omega), rfl, q.2.2⟩
theorem Sd.less (h : Sd n m c k (w + 1) S S1) : Sd n m c k w S S1 := ⟨h.1, h.2.1, h.2.2.1, h.2.2.2.1, h.2.2.2.2.1, by have := h.2.2.2.2.2; omega⟩
theorem Sd.pos (h : Sd n m c k w S S1) : S1 0 21 = nI (tN (S 8) n k) := h.2.1.1
end SD
theorem k_readUnit : CtS mX3_readUnit 4 (mW0 (fun (a : Nat × Nat × Nat) S => RdP S a.1 a.2.1 a.2.2) (fun (a : Nat × Nat × Nat) S v S' => RdQ (pUnit (S 8) a.2.1 a.1) S a.2.1 a.2.2 v S')) := by
  intro l G d hd as h z Q hs
  match as, hs with
  | [.ref b], hs =>
    obtain ⟨S, a, hm, hp, hs⟩ := hs
    replace hp : RdP S a.1 a.2.1 a.2.2 := hp
    replace hs : ∀ v S' h', (RdQ (pUnit (S 8) a.2.1 a.1) S a.2.1 a.2.2 v S') → IsMod G b S' h' → FrM b h h' → Q (some (.int v)) h' := hs
    have hf : FrM b h h := FrM.rf
    refine Ct.of rfl (Nat.le_of_ble_eq_true rfl) rfl ?_
    obtain ⟨k, n, m⟩ := a
    dsimp only at hp hs
    obtain ⟨hd0, ro⟩ := hp
    have h23 := hd0.tok
    have hkn : k ≤ n := hd0.2.2.2.2.1
    refine X.w wkX3_readUnit (fcons (ceV k_reads mmV0 ckX3_203 rfl mrV0 (by omega) rfl) (fcons (ceV k_emits mmV2 ckX3_200 rfl mrV2 (by omega) rfl) (fcons (ceV k_errs mmW1 ckX3_197 rfl mrW1 (by omega) rfl) fnil))) [] 31 rfl ?_
    refine gF (by first | assumption | exact hm.obj | exact hm.arr _ rfl) ?_
    refine And.intro (fun b5 => ?_) (fun b5 => ?_)
    · simp only [cP, cN, bI_0, Bool.not_eq_false, lt_nle, Decidable.not_not] at b5
      refine And.intro (fun b23 => ?_) (fun b23 => ?_)
      · simp only [cP, cN, bI_0, Bool.not_eq_false, lt_nle, Decidable.not_not] at b23
        exact absurd trivial b23
      · simp only [cP, cN, bI_0, Bool.not_eq_false, lt_nle, Decidable.not_not] at b23
        refine gF (by first | assumption | exact hm.obj | exact hm.arr _ rfl) ?_
        refine And.intro (fun b31 => ?_) (fun b31 => ?_)
        · simp only [cP, cN, bI_0, Bool.not_eq_false, lt_nle, Decidable.not_not] at b31
          refine And.intro (fun b42 => ?_) (fun b42 => ?_)
          · simp only [cP, cN, bI_0, Bool.not_eq_false, lt_nle, Decidable.not_not] at b42
            refine And.intro (fun b51 => ?_) (fun b51 => ?_)
            · simp only [cP, cN, bI_0, Bool.not_eq_false, lt_nle, Decidable.not_not] at b51
              have hKK : tK (S 8) n k = 3 := by rw [← h23]; exact b31
              have hK0 : ¬ tK (S 8) n k = 0 := by rw [hKK]; decide
              have ha := tN_adv hkn hK0
              have hV := hd0.val hK0 (by rw [hKK]; decide)
              have hm4 : m < 400 := by have h8 := hd0.2.2.2.2.2; have h9 := ro.2.1; simp at h8; omega
              refine gF (by first | assumption | exact hm.obj | exact hm.arr _ rfl) ?_
              refine Exists.intro _ (Exists.intro m (And.intro hm (And.intro ⟨hd0.2.2.1, hm4⟩ ?_)))
              intro S67 h67 p67 hm hf67
              have hf := hf.tr hf67
              (try dsimp only at p67)
              subst p67
              refine Exists.intro _ (Exists.intro (tN (S 8) n k, n) (And.intro hm (And.intro ⟨hd0.pos, ha.2, ro.fr (RFr.em (m := m) (Nat.le_refl m))⟩ ?_)))
              intro S71 h71 p71 hm hf71
              have hf := hf.tr hf71
              (try dsimp only at p71)
              obtain ⟨f, rfl, hFO, hTk⟩ := p71
              have e : pUnit (S 8) n k = .inr ([(0, tV (S 8) n k)], tN (S 8) n k) := by
                unfold pUnit
                rw [if_pos hKK]
              rw [e] at hs
              refine And.intro (hs _ _ _ ?_ hm hf) rfl
              rw [← hV]
              exact ⟨(RFr.em (m := m) (Nat.le_refl m)).tr (RFr.fo (m := m) hFO) (Nat.le_refl _), rfl, hTk, (hFO 32 (Or.inr (by decide))).trans (nI_1 m), em_code.eq rfl rfl⟩
            · simp only [cP, cN, bI_0, Bool.not_eq_false, lt_nle, Decidable.not_not] at b51
              exact absurd trivial b51
          · simp only [cP, cN, bI_0, Bool.not_eq_false, lt_nle, Decidable.not_not] at b42
            exact absurd trivial b42
        · simp only [cP, cN, bI_0, Bool.not_eq_false, lt_nle, Decidable.not_not] at b31
          refine Exists.intro _ (Exists.intro () (And.intro hm (And.intro trivial ?_)))
          intro v36 S36 h36 p36 hm hf36
          have hf := hf.tr hf36
          (try dsimp only at p36)
          obtain ⟨rfl, rfl⟩ := p36
          have e : pUnit (S 8) n k = .inl (1, tS (S 8) n k) := by
            unfold pUnit
            rw [if_neg (by rw [← h23]; exact b31), if_neg (fun q => b5 (h23.trans q.1))]
          rw [e] at hs
          exact And.intro (hs _ _ _ hd0.err hm hf) rfl
    · simp only [cP, cN, bI_0, Bool.not_eq_false, lt_nle, Decidable.not_not] at b5
      refine gF (by first | assumption | exact hm.obj | exact hm.arr _ rfl) ?_
      refine And.intro (fun b13 => ?_) (fun b13 => ?_)
      · simp only [cP, cN, bI_0, Bool.not_eq_false, lt_nle, Decidable.not_not] at b13
        refine And.intro (fun b23 => ?_) (fun b23 => ?_)
        · simp only [cP, cN, bI_0, Bool.not_eq_false, lt_nle, Decidable.not_not] at b23
          exact absurd trivial b23
        · simp only [cP, cN, bI_0, Bool.not_eq_false, lt_nle, Decidable.not_not] at b23
          refine gF (by first | assumption | exact hm.obj | exact hm.arr _ rfl) ?_
          refine And.intro (fun b31 => ?_) (fun b31 => ?_)
          · simp only [cP, cN, bI_0, Bool.not_eq_false, lt_nle, Decidable.not_not] at b31
            refine And.intro (fun b42 => ?_) (fun b42 => ?_)
            · simp only [cP, cN, bI_0, Bool.not_eq_false, lt_nle, Decidable.not_not] at b42
              refine And.intro (fun b51 => ?_) (fun b51 => ?_)
              · simp only [cP, cN, bI_0, Bool.not_eq_false, lt_nle, Decidable.not_not] at b51
                have hKK : tK (S 8) n k = 3 := by rw [← h23]; exact b31
                have hK0 : ¬ tK (S 8) n k = 0 := by rw [hKK]; decide
                have ha := tN_adv hkn hK0
                have hV := hd0.val hK0 (by rw [hKK]; decide)
                have hm4 : m < 400 := by have h8 := hd0.2.2.2.2.2; have h9 := ro.2.1; simp at h8; omega
                refine gF (by first | assumption | exact hm.obj | exact hm.arr _ rfl) ?_
                refine Exists.intro _ (Exists.intro m (And.intro hm (And.intro ⟨hd0.2.2.1, hm4⟩ ?_)))
                intro S67 h67 p67 hm hf67
                have hf := hf.tr hf67
                (try dsimp only at p67)
                subst p67
                refine Exists.intro _ (Exists.intro (tN (S 8) n k, n) (And.intro hm (And.intro ⟨hd0.pos, ha.2, ro.fr (RFr.em (m := m) (Nat.le_refl m))⟩ ?_)))
                intro S71 h71 p71 hm hf71
                have hf := hf.tr hf71
                (try dsimp only at p71)
                obtain ⟨f, rfl, hFO, hTk⟩ := p71
                have e : pUnit (S 8) n k = .inr ([(0, tV (S 8) n k)], tN (S 8) n k) := by
                  unfold pUnit
                  rw [if_pos hKK]
                rw [e] at hs
                refine And.intro (hs _ _ _ ?_ hm hf) rfl
                rw [← hV]
                exact ⟨(RFr.em (m := m) (Nat.le_refl m)).tr (RFr.fo (m := m) hFO) (Nat.le_refl _), rfl, hTk, (hFO 32 (Or.inr (by decide))).trans (nI_1 m), em_code.eq rfl rfl⟩
              · simp only [cP, cN, bI_0, Bool.not_eq_false, lt_nle, Decidable.not_not] at b51
                exact absurd trivial b51
            · simp only [cP, cN, bI_0, Bool.not_eq_false, lt_nle, Decidable.not_not] at b42
              exact absurd trivial b42
          · simp only [cP, cN, bI_0, Bool.not_eq_false, lt_nle, Decidable.not_not] at b31
            refine Exists.intro _ (Exists.intro () (And.intro hm (And.intro trivial ?_)))
            intro v36 S36 h36 p36 hm hf36
            have hf := hf.tr hf36
            (try dsimp only at p36)
            obtain ⟨rfl, rfl⟩ := p36
            have e : pUnit (S 8) n k = .inl (1, tS (S 8) n k) := by
              unfold pUnit
              rw [if_neg (by rw [← h23]; exact b31), if_neg (fun q => b13 (by rw [hd0.val (by rw [q.1]; decide) (by rw [q.1]; decide)]; exact q.2))]
            rw [e] at hs
            exact And.intro (hs _ _ _ hd0.err hm hf) rfl
      · simp only [cP, cN, bI_0, Bool.not_eq_false, lt_nle, Decidable.not_not] at b13
        refine And.intro (fun b23 => ?_) (fun b23 => ?_)
        · simp only [cP, cN, bI_0, Bool.not_eq_false, lt_nle, Decidable.not_not] at b23
          refine And.intro (fun b42 => ?_) (fun b42 => ?_)
          · simp only [cP, cN, bI_0, Bool.not_eq_false, lt_nle, Decidable.not_not] at b42
            exact absurd b42 (by decide)
          · simp only [cP, cN, bI_0, Bool.not_eq_false, lt_nle, Decidable.not_not] at b42
            refine And.intro (fun b51 => ?_) (fun b51 => ?_)
            · simp only [cP, cN, bI_0, Bool.not_eq_false, lt_nle, Decidable.not_not] at b51
              exact absurd b51 (by decide)
            · simp only [cP, cN, bI_0, Bool.not_eq_false, lt_nle, Decidable.not_not] at b51
              have hKK : tK (S 8) n k = 2 := by rw [← h23]; exact b5
              have hK0 : ¬ tK (S 8) n k = 0 := by rw [hKK]; decide
              have ha := tN_adv hkn hK0
              have hV := hd0.val hK0 (by rw [hKK]; decide)
              have hm4 : m < 400 := by have h8 := hd0.2.2.2.2.2; have h9 := ro.2.1; simp at h8; omega
              refine gF (by first | assumption | exact hm.obj | exact hm.arr _ rfl) ?_
              refine Exists.intro _ (Exists.intro m (And.intro hm (And.intro ⟨hd0.2.2.1, hm4⟩ ?_)))
              intro S67 h67 p67 hm hf67
              have hf := hf.tr hf67
              (try dsimp only at p67)
              subst p67
              refine Exists.intro _ (Exists.intro (tN (S 8) n k, n) (And.intro hm (And.intro ⟨hd0.pos, ha.2, ro.fr (RFr.em (m := m) (Nat.le_refl m))⟩ ?_)))
              intro S71 h71 p71 hm hf71
              have hf := hf.tr hf71
              (try dsimp only at p71)
              obtain ⟨f, rfl, hFO, hTk⟩ := p71
              have e : pUnit (S 8) n k = .inr ([(1, tV (S 8) n k - 5)], tN (S 8) n k) := by
                unfold pUnit
                rw [if_neg (by rw [hKK]; decide), if_pos ⟨hKK, by rw [← hV]; exact b13⟩]
              rw [e] at hs
              refine And.intro (hs _ _ _ ?_ hm hf) rfl
              rw [← hV]
              exact ⟨(RFr.em (m := m) (Nat.le_refl m)).tr (RFr.fo (m := m) hFO) (Nat.le_refl _), rfl, hTk, (hFO 32 (Or.inr (by decide))).trans (nI_1 m), em_code.eq rfl rfl⟩
        · simp only [cP, cN, bI_0, Bool.not_eq_false, lt_nle, Decidable.not_not] at b23
          exact absurd b23 (by decide)
