set_option maxRecDepth 100000
/-! THE CLASS: one object x and 1958 cells behind it: 1 the tape, 2.. three woods (0 the wood, 1 kept, 2 thought), 380 the row of woods to go back to, 381.. twelve woods (3..14), 1893 the rows of 'rest', 1894.. its rows, 1958 'spice'; the model lies just behind, from x + 1959 on. -/
def wo (j : Nat) : Nat := if j < 3 then 2 + 126 * j else 381 + 126 * (j - 3)
def wb (x j : Nat) : Nat := x + wo j
theorem wb_in {x j : Nat} (hj : j < 15) : (x + 2 ≤ wb x j ∧ wb x j + 126 ≤ x + 380) ∨ (x + 381 ≤ wb x j ∧ wb x j + 126 ≤ x + 1893) := by
  unfold wb wo; split <;> omega
theorem wb_ap {x j j' : Nat} (hn : j ≠ j') : wb x j + 126 ≤ wb x j' ∨ wb x j' + 126 ≤ wb x j := by
  unfold wb wo; split <;> split <;> omega
/-- F the object's fields, T the tape, S the woods, la where their laws lie, Ls the laws, pi how the woods to go back to lie, R 'rest', sp 'spice' -/
abbrev XW : Type := (Nat → Int32) × (Nat → Int32) × (Nat → SS) × (Nat → Nat) × (Nat → List Line9) × (Nat → Nat) × SS × (Nat → Int32)
abbrev XW.F (W : XW) : Nat → Int32 := W.1
abbrev XW.T (W : XW) : Nat → Int32 := W.2.1
abbrev XW.S (W : XW) : Nat → SS := W.2.2.1
abbrev XW.la (W : XW) : Nat → Nat := W.2.2.2.1
abbrev XW.Ls (W : XW) : Nat → List Line9 := W.2.2.2.2.1
abbrev XW.pi (W : XW) : Nat → Nat := W.2.2.2.2.2.1
abbrev XW.R (W : XW) : SS := W.2.2.2.2.2.2.1
abbrev XW.sp (W : XW) : Nat → Int32 := W.2.2.2.2.2.2.2
def XW.mk (F T : Nat → Int32) (S : Nat → SS) (la : Nat → Nat) (Ls : Nat → List Line9) (pi : Nat → Nat) (R : SS) (sp : Nat → Int32) : XW := (F, T, S, la, Ls, pi, R, sp)
/-- the cells that the class writes -/
def InX (x a : Nat) : Prop := a = x ∨ a = x + 1 ∨ a = x + 380 ∨ (x + 1893 ≤ a ∧ a < x + 1959) ∨ ∃ j o, j < 15 ∧ o < 125 ∧ o ≠ 112 ∧ a = wb x j + o
def FrX (x : Nat) (h h' : AH) : Prop := ∀ a, ¬ InX x a → h' a = h a
def lawQ (x a : Nat) : Nat → Bool
  | 0 => false
  | n + 1 => Nat.beq a (wb x n + 125) || lawQ x a n
/-- where laws lie -/
def lawZ (x a : Nat) : Bool := decide (a < x) || (decide (x + 1982 ≤ a) || lawQ x a 15)
def cut (x : Nat) (h : AH) : AH := fun a => bif lawZ x a then h a else none
theorem lawQ_iff {x a : Nat} : ∀ {n : Nat}, lawQ x a n = true → ∃ j, j < n ∧ a = wb x j + 125
  | 0, h => by cases h
  | n + 1, h => by
    unfold lawQ at h
    rw [Bool.or_eq_true] at h
    rcases h with h | h
    · exact ⟨n, Nat.lt_succ_self n, Nat.eq_of_beq_eq_true h⟩
    · obtain ⟨j, h1, h2⟩ := lawQ_iff h
      exact ⟨j, by omega, h2⟩
theorem lawQ_of {x a j : Nat} (e : a = wb x j + 125) : ∀ {n : Nat}, j < n → lawQ x a n = true
  | 0, h => by omega
  | n + 1, h => by
    unfold lawQ
    by_cases q : j = n
    · subst q
      subst e
      rw [Nat.beq_refl, Bool.true_or]
    · rw [lawQ_of e (n := n) (by omega), Bool.or_true]
theorem lawZ_iff {x a : Nat} (h : lawZ x a = true) : a < x ∨ x + 1982 ≤ a ∨ ∃ j, j < 15 ∧ a = wb x j + 125 := by
  unfold lawZ at h
  rw [Bool.or_eq_true, Bool.or_eq_true] at h
  rcases h with h | h | h
  · exact Or.inl (of_decide_eq_true h)
  · exact Or.inr (Or.inl (of_decide_eq_true h))
  · exact Or.inr (Or.inr (lawQ_iff h))
theorem lawZ_hi {x a : Nat} (h : x + 1982 ≤ a) : lawZ x a = true := by
  unfold lawZ
  rw [decide_eq_true h, Bool.true_or, Bool.or_true]
theorem lawZ_lo {x a : Nat} (h : a < x) : lawZ x a = true := by
  unfold lawZ
  rw [decide_eq_true h, Bool.true_or]
theorem lawZ_j {x j : Nat} (h : j < 15) : lawZ x (wb x j + 125) = true := by
  unfold lawZ
  rw [lawQ_of rfl h, Bool.or_true, Bool.or_true]
theorem lawZ_in {x a : Nat} (h : lawZ x a = true) : ¬ InX x a := by
  intro q
  rcases lawZ_iff h with h | h | ⟨j, hj, e⟩
  · rcases q with q | q | q | q | ⟨i, o, hi, ho, -, q⟩
    · omega
    · omega
    · omega
    · omega
    · have := wb_in (x := x) hi; omega
  · rcases q with q | q | q | q | ⟨i, o, hi, ho, -, q⟩
    · omega
    · omega
    · omega
    · omega
    · have := wb_in (x := x) hi; omega
  · have hw := wb_in (x := x) hj
    rcases q with q | q | q | q | ⟨i, o, hi, ho, -, q⟩
    · omega
    · omega
    · omega
    · omega
    · by_cases ij : i = j
      · subst ij; omega
      · have := wb_ap (x := x) ij; omega
theorem cut_fr {x : Nat} {h h' : AH} (f : FrX x h h') : cut x h' = cut x h := by
  funext a
  unfold cut
  cases e : lawZ x a with
  | true => exact f a (lawZ_in e)
  | false => rfl
theorem cut_le {x : Nat} {h : AH} {a : Nat} {e : va_E} (q : cut x h a = some e) : h a = some e := by
  unfold cut at q
  cases c : lawZ x a with
  | true => rw [c] at q; exact q
  | false => rw [c] at q; cases q
theorem IsLine.mono {h h' : AH} (m : ∀ a e, h a = some e → h' a = some e) {la : Nat} {q : Line9} (w : IsLine h la q) : IsLine h' la q := by
  obtain ⟨tg, tw, h1, h2, h3⟩ := w
  have hi : Imm h h' := fun a ci fs _ q => m _ _ q
  refine ⟨tg, tw, m _ _ h1, h2.imm hi, ?_⟩
  rcases h3 with h3 | ⟨c, t, h4, h5, h6⟩
  · exact Or.inl h3
  · exact Or.inr ⟨c, t, h4, h5, h6.imm hi⟩
theorem IsLaw.mono {G : GG} {h h' : AH} (m : ∀ a e, h a = some e → h' a = some e) {law : Nat} {ls : List Line9} (w : IsLaw G h law ls) : IsLaw G h' law ls := by
  obtain ⟨mc, ea, h1, h2, h3⟩ := w
  refine ⟨mc, ea, m _ _ h1, h2, ?_⟩
  rcases h3 with h3 | ⟨cap, f, h4, h5, h6, h7⟩
  · exact Or.inl h3
  · refine Or.inr ⟨cap, f, m _ _ h4, h5, h6, fun i q hq => ?_⟩
    obtain ⟨la, h8, h9⟩ := h7 i q hq
    exact ⟨la, h8, h9.mono m⟩
def xF (x : Nat) (F : Nat → Int32) : List Value := [.ref (x + 1), .int (F 1), .int (F 2), .int (F 3), .ref (wb x 0), .ref (wb x 1), .ref (wb x 2), .ref (x + 380), .int (F 8), .int (F 9), .ref (x + 1893), .ref (x + 1958)]
def IsX (G : GG) (x : Nat) (W : XW) (h : AH) : Prop := (G.2.2.1.size ≤ x) ∧ (h x = some (.inr (0, xF x W.F))) ∧ (h (x + 1) = some (.inl (G.2.1 1, 400, .inl W.T))) ∧ (h (x + 380) = some (aR G 4 12 (fun k => some (wb x (3 + W.pi k))))) ∧ (h (x + 1893) = some (aR G 2 64 (fun i => some (x + (1894 + i))))) ∧ (∀ i, i < 64 → h (x + (1894 + i)) = some (aI G 64 (W.R i))) ∧ (h (x + 1958) = some (aI G 12 W.sp)) ∧ (∀ j, j < 15 → IsWood G (wb x j) (W.S j) (W.la j) h) ∧ (∀ j, j < 15 → IsLaw G (cut x h) (W.la j) (W.Ls j)) ∧ (∀ k, k < 12 → W.pi k < 12) ∧ (∀ k k', k < 12 → k' < 12 → W.pi k = W.pi k' → k = k')
theorem IsX.N {G : GG} {x : Nat} {W : XW} {h : AH} (w : IsX G x W h) : G.2.2.1.size ≤ x := w.1
theorem IsX.obj {G : GG} {x : Nat} {W : XW} {h : AH} (w : IsX G x W h) : h x = some (.inr (0, xF x W.F)) := w.2.1
theorem IsX.tp {G : GG} {x : Nat} {W : XW} {h : AH} (w : IsX G x W h) : h (x + 1) = some (.inl (G.2.1 1, 400, .inl W.T)) := w.2.2.1
theorem IsX.bk {G : GG} {x : Nat} {W : XW} {h : AH} (w : IsX G x W h) : h (x + 380) = some (aR G 4 12 (fun k => some (wb x (3 + W.pi k)))) := w.2.2.2.1
theorem IsX.rs {G : GG} {x : Nat} {W : XW} {h : AH} (w : IsX G x W h) : h (x + 1893) = some (aR G 2 64 (fun i => some (x + (1894 + i)))) := w.2.2.2.2.1
theorem IsX.rws {G : GG} {x : Nat} {W : XW} {h : AH} (w : IsX G x W h) : ∀ i, i < 64 → h (x + (1894 + i)) = some (aI G 64 (W.R i)) := w.2.2.2.2.2.1
theorem IsX.sp {G : GG} {x : Nat} {W : XW} {h : AH} (w : IsX G x W h) : h (x + 1958) = some (aI G 12 W.sp) := w.2.2.2.2.2.2.1
theorem IsX.wd {G : GG} {x : Nat} {W : XW} {h : AH} (w : IsX G x W h) : ∀ j, j < 15 → IsWood G (wb x j) (W.S j) (W.la j) h := w.2.2.2.2.2.2.2.1
theorem IsX.lw {G : GG} {x : Nat} {W : XW} {h : AH} (w : IsX G x W h) : ∀ j, j < 15 → IsLaw G (cut x h) (W.la j) (W.Ls j) := w.2.2.2.2.2.2.2.2.1
theorem IsX.p1 {G : GG} {x : Nat} {W : XW} {h : AH} (w : IsX G x W h) : ∀ k, k < 12 → W.pi k < 12 := w.2.2.2.2.2.2.2.2.2.1
theorem IsX.p2 {G : GG} {x : Nat} {W : XW} {h : AH} (w : IsX G x W h) : ∀ k k', k < 12 → k' < 12 → W.pi k = W.pi k' → k = k' := w.2.2.2.2.2.2.2.2.2.2
theorem IsX.mk0 {G : GG} {x : Nat} {W : XW} {h : AH} (N : G.2.2.1.size ≤ x) (obj : h x = some (.inr (0, xF x W.F))) (tp : h (x + 1) = some (.inl (G.2.1 1, 400, .inl W.T))) (bk : h (x + 380) = some (aR G 4 12 (fun k => some (wb x (3 + W.pi k))))) (rs : h (x + 1893) = some (aR G 2 64 (fun i => some (x + (1894 + i))))) (rws : ∀ i, i < 64 → h (x + (1894 + i)) = some (aI G 64 (W.R i))) (sp : h (x + 1958) = some (aI G 12 W.sp)) (wd : ∀ j, j < 15 → IsWood G (wb x j) (W.S j) (W.la j) h) (lw : ∀ j, j < 15 → IsLaw G (cut x h) (W.la j) (W.Ls j)) (p1 : ∀ k, k < 12 → W.pi k < 12) (p2 : ∀ k k', k < 12 → k' < 12 → W.pi k = W.pi k' → k = k') : IsX G x W h := ⟨N, obj, tp, bk, rs, rws, sp, wd, lw, p1, p2⟩
def XW.uF (W : XW) (k : Nat) (v : Int32) : XW := (upd W.F k v, W.2)
def XW.uT (W : XW) (k : Nat) (v : Int32) : XW := (W.1, upd W.T k v, W.2.2)
def XW.uR (W : XW) (i k : Nat) (v : Int32) : XW := (W.1, W.2.1, W.2.2.1, W.2.2.2.1, W.2.2.2.2.1, W.2.2.2.2.2.1, up2 W.R i k v, W.2.2.2.2.2.2.2)
def XW.uP (W : XW) (k : Nat) (v : Int32) : XW := (W.1, W.2.1, W.2.2.1, W.2.2.2.1, W.2.2.2.2.1, W.2.2.2.2.2.1, W.2.2.2.2.2.2.1, upd W.sp k v)
def upN {α : Type} (f : Nat → α) (j : Nat) (v : α) : Nat → α := fun i => if i = j then v else f i
theorem upN_s {α : Type} {f : Nat → α} {j : Nat} {v : α} : upN f j v j = v := if_pos rfl
theorem upN_n {α : Type} {f : Nat → α} {j i : Nat} {v : α} (h : i ≠ j) : upN f j v i = f i := if_neg h
def XW.uS (W : XW) (j : Nat) (S' : SS) : XW := (W.1, W.2.1, upN W.S j S', W.2.2.2)
def XW.uL (W : XW) (j : Nat) (la : Nat) (ls : List Line9) : XW := (W.1, W.2.1, W.2.2.1, upN W.la j la, upN W.Ls j ls, W.2.2.2.2.2)
def XW.up (W : XW) (j o k : Nat) (v : Int32) : XW := W.uS j (up2 (W.S j) o k v)
def XW.uQ (W : XW) (p : Nat → Nat) : XW := (W.1, W.2.1, W.2.2.1, W.2.2.2.1, W.2.2.2.2.1, p, W.2.2.2.2.2.2)
section XX
variable {G : GG} {x : Nat} {W : XW} {h h1 h2 : AH}
theorem IsX.w0 (w : IsX G x W h) : IsWood G (wb x 0) (W.S 0) (W.la 0) h := w.wd 0 (by decide)
theorem IsX.w1 (w : IsX G x W h) : IsWood G (wb x 1) (W.S 1) (W.la 1) h := w.wd 1 (by decide)
theorem IsX.w2 (w : IsX G x W h) : IsWood G (wb x 2) (W.S 2) (W.la 2) h := w.wd 2 (by decide)
theorem IsX.recv (w : IsX G x W h) : ∃ fs, h x = some (.inr (0, fs)) := ⟨_, w.obj⟩
theorem IsX.No (w : IsX G x W h) (o : Nat) : G.2.2.1.size ≤ x + o := Nat.le_trans w.N (Nat.le_add_right _ _)
theorem IsX.law (w : IsX G x W h) {j : Nat} (hj : j < 15) : IsLaw G h (W.la j) (W.Ls j) := (w.lw j hj).mono (fun _ _ q => cut_le q)
theorem InX.w {j o : Nat} (hj : j < 15) (h1 : o < 125 ∧ o ≠ 112) : InX x (wb x j + o) := Or.inr (Or.inr (Or.inr (Or.inr ⟨j, o, hj, h1.1, h1.2, rfl⟩)))
theorem InX.o {j : Nat} (hj : j < 15) : InX x (wb x j) := InX.w (o := 0) hj ⟨by decide, by decide⟩
theorem InX.self : InX x x := Or.inl rfl
theorem InX.t : InX x (x + 1) := Or.inr (Or.inl rfl)
theorem InX.b : InX x (x + 380) := Or.inr (Or.inr (Or.inl rfl))
theorem InX.s : InX x (x + 1958) := Or.inr (Or.inr (Or.inr (Or.inl ⟨by omega, by omega⟩)))
theorem InX.r {i : Nat} (hi : i < 64) : InX x (x + (1894 + i)) := Or.inr (Or.inr (Or.inr (Or.inl ⟨by omega, by omega⟩)))
theorem FrX.rf : FrX x h h := fun _ _ => rfl
theorem FrX.tr (a : FrX x h h1) (c : FrX x h1 h2) : FrX x h h2 := fun q hq => (c q hq).trans (a q hq)
theorem FrX.u (a : FrX x h h1) {q : Nat} {c : va_E} (e : h2 = ahU h1 q c) (hq : InX x q) : FrX x h h2 := by
  intro b hb
  rw [e, ahU_n (fun q2 : b = q => hb (by rw [q2]; exact hq))]
  exact a b hb
theorem FrX.w {j : Nat} (a : FrX x h h1) (hj : j < 15) (c : Fr (wb x j) h1 h2) : FrX x h h2 := by
  intro b hb
  rw [c b ?_]
  · exact a b hb
  · rcases Classical.em (Out (wb x j) b) with hn | hn
    · exact hn
    unfold Out at hn
    refine absurd ?_ hb
    have e : b = wb x j + (b - wb x j) := by omega
    rw [e]
    exact InX.w hj ⟨by omega, by omega⟩
/-- where all that the class has is as it was -/
theorem IsX.fr (w : IsX G x W h) (h0 : ∀ a, x ≤ a → a < x + 1959 → h2 a = h a) (hc : cut x h2 = cut x h) : IsX G x W h2 := by
  refine IsX.mk0 w.N ((h0 _ (by omega) (by omega)).trans w.obj) ((h0 _ (by omega) (by omega)).trans w.tp) ((h0 _ (by omega) (by omega)).trans w.bk) ((h0 _ (by omega) (by omega)).trans w.rs) (fun i hi => (h0 _ (by omega) (by omega)).trans (w.rws i hi)) ((h0 _ (by omega) (by omega)).trans w.sp) (fun j hj => (w.wd j hj).fr (fun o h1 h2 => h0 _ ?_ ?_)) (fun j hj => by rw [hc]; exact w.lw j hj) w.p1 w.p2
  · have := wb_in (x := x) hj; omega
  · have := wb_in (x := x) hj; omega
theorem cut_M (f : FrM (x + 1959) h h2) : cut x h2 = cut x h := by
  funext a
  unfold cut
  cases e : lawZ x a with
  | true =>
    refine f a ?_
    rcases lawZ_iff e with q | q | ⟨j, hj, q⟩
    · exact Or.inl (by omega)
    · exact Or.inr (by omega)
    · have := wb_in (x := x) hj
      exact Or.inl (by omega)
  | false => rfl
/-- the model's methods leave the class alone -/
theorem IsX.frM (w : IsX G x W h) (f : FrM (x + 1959) h h2) : IsX G x W h2 := w.fr (fun a _ h2 => f a (Or.inl h2)) (cut_M f)
/-- the class's methods leave the model alone -/
theorem IsMod.frX {M : SS} (w : IsMod G (x + 1959) M h) (f : FrX x h h2) : IsMod G (x + 1959) M h2 := by
  refine w.fr (fun a h1 h2 => f a ?_)
  intro q
  rcases q with q | q | q | q | ⟨j, o, hj, ho, -, q⟩
  · omega
  · omega
  · omega
  · omega
  · have := wb_in (x := x) hj; omega
theorem IsX.uF (w : IsX G x W h) {k : Nat} {v : Int32} (e : h2 = ahU h x (.inr (0, (xF x W.F).set k (.int v)))) (hk : (xF x W.F).set k (.int v) = xF x (upd W.F k v)) : IsX G x (W.uF k v) h2 := by
  have hf : FrX x h h2 := FrX.rf.u e InX.self
  refine IsX.mk0 w.N ?_ ?_ ?_ ?_ (fun i hi => ?_) ?_ (fun j hj => (w.wd j hj).off e ?_) (fun j hj => ?_) w.p1 w.p2
  · rw [e, ahU_s, hk]; rfl
  · rw [e, ahU_n (by omega)]; exact w.tp
  · rw [e, ahU_n (by omega)]; exact w.bk
  · rw [e, ahU_n (by omega)]; exact w.rs
  · rw [e, ahU_n (by omega)]; exact w.rws i hi
  · rw [e, ahU_n (by omega)]; exact w.sp
  · have := wb_in (x := x) hj; omega
  · rw [cut_fr hf]; exact w.lw j hj
theorem IsX.uT (w : IsX G x W h) {k : Nat} {v : Int32} (e : h2 = ahU h (x + 1) (.inl (G.2.1 1, 400, .inl (upd W.T k v)))) : IsX G x (W.uT k v) h2 := by
  have hf : FrX x h h2 := FrX.rf.u e InX.t
  refine IsX.mk0 w.N ?_ ?_ ?_ ?_ (fun i hi => ?_) ?_ (fun j hj => (w.wd j hj).off e ?_) (fun j hj => ?_) w.p1 w.p2
  · rw [e, ahU_n (by omega)]; exact w.obj
  · rw [e, ahU_s]; rfl
  · rw [e, ahU_n (by omega)]; exact w.bk
  · rw [e, ahU_n (by omega)]; exact w.rs
  · rw [e, ahU_n (by omega)]; exact w.rws i hi
  · rw [e, ahU_n (by omega)]; exact w.sp
  · have := wb_in (x := x) hj; omega
  · rw [cut_fr hf]; exact w.lw j hj
theorem IsX.uP (w : IsX G x W h) {k n : Nat} {v : Int32} (e : h2 = ahU h (x + 1958) (.inl (G.2.1 0, n, .inl (upd W.sp k v)))) (hn : n = 12) : IsX G x (W.uP k v) h2 := by
  subst hn
  have hf : FrX x h h2 := FrX.rf.u e InX.s
  refine IsX.mk0 w.N ?_ ?_ ?_ ?_ (fun i hi => ?_) ?_ (fun j hj => (w.wd j hj).off e ?_) (fun j hj => ?_) w.p1 w.p2
  · rw [e, ahU_n (by omega)]; exact w.obj
  · rw [e, ahU_n (by omega)]; exact w.tp
  · rw [e, ahU_n (by omega)]; exact w.bk
  · rw [e, ahU_n (by omega)]; exact w.rs
  · rw [e, ahU_n (by omega)]; exact w.rws i hi
  · rw [e, ahU_s]; rfl
  · have := wb_in (x := x) hj; omega
  · rw [cut_fr hf]; exact w.lw j hj
theorem IsX.uR (w : IsX G x W h) {i k n : Nat} {v : Int32} (hi : i < 64) (e : h2 = ahU h (x + (1894 + i)) (.inl (G.2.1 0, n, .inl (upd (W.R i) k v)))) (hn : n = 64) : IsX G x (W.uR i k v) h2 := by
  subst hn
  have hf : FrX x h h2 := FrX.rf.u e (InX.r hi)
  refine IsX.mk0 w.N ?_ ?_ ?_ ?_ (fun i' hi' => ?_) ?_ (fun j hj => (w.wd j hj).off e ?_) (fun j hj => ?_) w.p1 w.p2
  · rw [e, ahU_n (by omega)]; exact w.obj
  · rw [e, ahU_n (by omega)]; exact w.tp
  · rw [e, ahU_n (by omega)]; exact w.bk
  · rw [e, ahU_n (by omega)]; exact w.rs
  · by_cases q : i' = i
    · subst q
      rw [e, ahU_s]
      show _ = some (aI G 64 (if i' = i' then upd (W.R i') k v else W.R i'))
      rw [if_pos rfl]
      rfl
    · rw [e, ahU_n (by omega)]
      show _ = some (aI G 64 (if i' = i then upd (W.R i) k v else W.R i'))
      rw [if_neg q]
      exact w.rws i' hi'
  · rw [e, ahU_n (by omega)]; exact w.sp
  · have := wb_in (x := x) hj; omega
  · rw [cut_fr hf]; exact w.lw j hj
theorem IsX.uQ (w : IsX G x W h) {p : Nat → Nat} (e : h2 = ahU h (x + 380) (aR G 4 12 (fun k => some (wb x (3 + p k))))) (p1 : ∀ k, k < 12 → p k < 12) (p2 : ∀ k k', k < 12 → k' < 12 → p k = p k' → k = k') : IsX G x (W.uQ p) h2 := by
  have hf : FrX x h h2 := FrX.rf.u e InX.b
  refine IsX.mk0 w.N ?_ ?_ ?_ ?_ (fun i hi => ?_) ?_ (fun j hj => (w.wd j hj).off e ?_) (fun j hj => ?_) p1 p2
  · rw [e, ahU_n (by omega)]; exact w.obj
  · rw [e, ahU_n (by omega)]; exact w.tp
  · rw [e, ahU_s]; rfl
  · rw [e, ahU_n (by omega)]; exact w.rs
  · rw [e, ahU_n (by omega)]; exact w.rws i hi
  · rw [e, ahU_n (by omega)]; exact w.sp
  · have := wb_in (x := x) hj; omega
  · rw [cut_fr hf]; exact w.lw j hj
/-- a wood has changed, and its law -/
theorem IsX.woodL (w : IsX G x W h) {j la : Nat} {ls : List Line9} {S' : SS} (hj : j < 15) (hw : IsWood G (wb x j) S' la h2) (hF : Fr (wb x j) h h2) (hl : IsLaw G (cut x h) la ls) : IsX G x ((W.uS j S').uL j la ls) h2 := by
  have hf : FrX x h h2 := FrX.rf.w hj hF
  have hi := wb_in (x := x) hj
  have ho : ∀ a, (a < wb x j ∨ wb x j + 125 ≤ a) → h2 a = h a := fun a q => hF a (by unfold Out; omega)
  refine IsX.mk0 w.N ?_ ?_ ?_ ?_ (fun i hi => ?_) ?_ (fun i hi => ?_) (fun i hi => ?_) w.p1 w.p2
  · rw [ho _ (by omega)]; exact w.obj
  · rw [ho _ (by omega)]; exact w.tp
  · rw [ho _ (by omega)]; exact w.bk
  · rw [ho _ (by omega)]; exact w.rs
  · rw [ho _ (by omega)]; exact w.rws i hi
  · rw [ho _ (by omega)]; exact w.sp
  · by_cases q : i = j
    · subst q
      show IsWood G (wb x i) (upN W.S i S' i) (upN W.la i la i) h2
      rw [upN_s, upN_s]
      exact hw
    · show IsWood G (wb x i) (upN W.S j S' i) (upN W.la j la i) h2
      rw [upN_n q, upN_n q]
      have := wb_ap (x := x) q
      exact (w.wd i hi).out hF (by omega)
  · rw [cut_fr hf]
    by_cases q : i = j
    · subst q
      show IsLaw G (cut x h) (upN W.la i la i) (upN W.Ls i ls i)
      rw [upN_s, upN_s]
      exact hl
    · show IsLaw G (cut x h) (upN W.la j la i) (upN W.Ls j ls i)
      rw [upN_n q, upN_n q]
      exact w.lw i hi
theorem upN_self {α : Type} (f : Nat → α) (j : Nat) : upN f j (f j) = f := by
  funext i
  by_cases q : i = j
  · subst q; exact upN_s
  · exact upN_n q
theorem IsX.wood (w : IsX G x W h) {j : Nat} {S' : SS} (hj : j < 15) (hw : IsWood G (wb x j) S' (W.la j) h2) (hF : Fr (wb x j) h h2) : IsX G x (W.uS j S') h2 := by
  have h9 := w.woodL hj hw hF (w.lw j hj)
  unfold XW.uL at h9
  rw [show (W.uS j S').la = W.la from rfl, show (W.uS j S').Ls = W.Ls from rfl, upN_self, upN_self] at h9
  exact h9
theorem IsX.u0 (w : IsX G x W h) {j k : Nat} {v : Int32} (hj : j < 15) (e : h2 = ahU h (wb x j) (.inr (1, (wF (wb x j) (W.S j) (W.la j)).set k (.int v)))) (hk : (wF (wb x j) (W.S j) (W.la j)).set k (.int v) = wF (wb x j) (up2 (W.S j) 0 k v) (W.la j)) : IsX G x (W.up j 0 k v) h2 :=
  w.wood hj ((w.wd j hj).u0 e hk) (Fr.rf.u0 e)
theorem IsX.uA (w : IsX G x W h) {j o n i : Nat} {v : Int32} (hj : j < 15) (e : h2 = ahU h (wb x j + o) (.inl (G.2.1 0, n, .inl (upd (W.S j o) i v)))) (hk : (wK o = 1 ∧ n = 64) ∨ (wK o = 2 ∧ n = 12) ∨ (wK o = 3 ∧ n = 4)) (ho : o < 125 ∧ o ≠ 112) : IsX G x (W.up j o i v) h2 :=
  w.wood hj ((w.wd j hj).uA e hk) (Fr.rf.uA e ho)
theorem IsX.upf (w : IsX G x W h) {j o k : Nat} {v : Int32} (hj : j < 15) (ho : wK o = 6) (hk : k = 1 ∨ k = 2 ∨ k = 3) (e : h2 = ahU h (wb x j + o) (.inr (2, (pF (wb x j) (W.S j) o).set k (.int v)))) (hq : o < 125 ∧ o ≠ 112) : IsX G x (W.up j o k v) h2 :=
  w.wood hj ((w.wd j hj).upf ho hk e) (Fr.rf.uA e hq)
end XX
/-! contracts of the class -/
def xR0 {α : Type} (pre : α → XW → Prop) (f : α → XW → Int32) : GG → CSpec := fun G as h Q => match as with
  | [.ref b] => ∃ (S : XW) (a : α), IsX G b S h ∧ pre a S ∧ ∀ v, v = f a S → Q (some (.int v)) h
  | _ => False
def xW0 {α : Type} (pre : α → XW → Prop) (post : α → XW → Int32 → XW → Prop) : GG → CSpec := fun G as h Q => match as with
  | [.ref b] => ∃ (S : XW) (a : α), IsX G b S h ∧ pre a S ∧ ∀ v S' h', post a S v S' → IsX G b S' h' → FrX b h h' → Q (some (.int v)) h'
  | _ => False
def xV0 {α : Type} (pre : α → XW → Prop) (post : α → XW → XW → Prop) : GG → CSpec := fun G as h Q => match as with
  | [.ref b] => ∃ (S : XW) (a : α), IsX G b S h ∧ pre a S ∧ ∀ S' h', post a S S' → IsX G b S' h' → FrX b h h' → Q none h'
  | _ => False
theorem xmR0 {α : Type} {pre : α → XW → Prop} {f : α → XW → Int32} {G : GG} : Mono (xR0 pre f G) := by
  intro as h Q Q' hQ hs
  unfold xR0 at hs ⊢
  split at hs
  · obtain ⟨S, a, h1, h2, h3⟩ := hs
    exact ⟨S, a, h1, h2, fun v e => hQ _ _ (h3 v e)⟩
  · exact hs.elim
theorem xrR0 {α : Type} {pre : α → XW → Prop} {f : α → XW → Int32} {G : GG} : ∀ as h Q, as.length = 0 + 1 → xR0 pre f G as h Q → ∃ b as', as = .ref b :: as' ∧ ∃ fs, h b = some (.inr (0, fs)) := by
  intro as h Q _ hs
  unfold xR0 at hs
  split at hs
  · obtain ⟨S, a, h1, h2, h3⟩ := hs
    exact ⟨_, _, rfl, h1.recv⟩
  · exact hs.elim
theorem xmW0 {α : Type} {pre : α → XW → Prop} {post : α → XW → Int32 → XW → Prop} {G : GG} : Mono (xW0 pre post G) := by
  intro as h Q Q' hQ hs
  unfold xW0 at hs ⊢
  split at hs
  · obtain ⟨S, a, h1, h2, h3⟩ := hs
    exact ⟨S, a, h1, h2, fun v S' h' p1 p2 p3 => hQ _ _ (h3 v S' h' p1 p2 p3)⟩
  · exact hs.elim
theorem xrW0 {α : Type} {pre : α → XW → Prop} {post : α → XW → Int32 → XW → Prop} {G : GG} : ∀ as h Q, as.length = 0 + 1 → xW0 pre post G as h Q → ∃ b as', as = .ref b :: as' ∧ ∃ fs, h b = some (.inr (0, fs)) := by
  intro as h Q _ hs
  unfold xW0 at hs
  split at hs
  · obtain ⟨S, a, h1, h2, h3⟩ := hs
    exact ⟨_, _, rfl, h1.recv⟩
  · exact hs.elim
theorem xmV0 {α : Type} {pre : α → XW → Prop} {post : α → XW → XW → Prop} {G : GG} : Mono (xV0 pre post G) := by
  intro as h Q Q' hQ hs
  unfold xV0 at hs ⊢
  split at hs
  · obtain ⟨S, a, h1, h2, h3⟩ := hs
    exact ⟨S, a, h1, h2, fun S' h' p1 p2 p3 => hQ _ _ (h3 S' h' p1 p2 p3)⟩
  · exact hs.elim
theorem xrV0 {α : Type} {pre : α → XW → Prop} {post : α → XW → XW → Prop} {G : GG} : ∀ as h Q, as.length = 0 + 1 → xV0 pre post G as h Q → ∃ b as', as = .ref b :: as' ∧ ∃ fs, h b = some (.inr (0, fs)) := by
  intro as h Q _ hs
  unfold xV0 at hs
  split at hs
  · obtain ⟨S, a, h1, h2, h3⟩ := hs
    exact ⟨_, _, rfl, h1.recv⟩
  · exact hs.elim
def xR1 {α : Type} (pre : α → Int32 → XW → Prop) (f : α → Int32 → XW → Int32) : GG → CSpec := fun G as h Q => match as with
  | [.ref b, .int x1] => ∃ (S : XW) (a : α), IsX G b S h ∧ pre a x1 S ∧ ∀ v, v = f a x1 S → Q (some (.int v)) h
  | _ => False
def xW1 {α : Type} (pre : α → Int32 → XW → Prop) (post : α → Int32 → XW → Int32 → XW → Prop) : GG → CSpec := fun G as h Q => match as with
  | [.ref b, .int x1] => ∃ (S : XW) (a : α), IsX G b S h ∧ pre a x1 S ∧ ∀ v S' h', post a x1 S v S' → IsX G b S' h' → FrX b h h' → Q (some (.int v)) h'
  | _ => False
def xV1 {α : Type} (pre : α → Int32 → XW → Prop) (post : α → Int32 → XW → XW → Prop) : GG → CSpec := fun G as h Q => match as with
  | [.ref b, .int x1] => ∃ (S : XW) (a : α), IsX G b S h ∧ pre a x1 S ∧ ∀ S' h', post a x1 S S' → IsX G b S' h' → FrX b h h' → Q none h'
  | _ => False
theorem xmR1 {α : Type} {pre : α → Int32 → XW → Prop} {f : α → Int32 → XW → Int32} {G : GG} : Mono (xR1 pre f G) := by
  intro as h Q Q' hQ hs
  unfold xR1 at hs ⊢
  split at hs
  · obtain ⟨S, a, h1, h2, h3⟩ := hs
    exact ⟨S, a, h1, h2, fun v e => hQ _ _ (h3 v e)⟩
  · exact hs.elim
theorem xrR1 {α : Type} {pre : α → Int32 → XW → Prop} {f : α → Int32 → XW → Int32} {G : GG} : ∀ as h Q, as.length = 1 + 1 → xR1 pre f G as h Q → ∃ b as', as = .ref b :: as' ∧ ∃ fs, h b = some (.inr (0, fs)) := by
  intro as h Q _ hs
  unfold xR1 at hs
  split at hs
  · obtain ⟨S, a, h1, h2, h3⟩ := hs
    exact ⟨_, _, rfl, h1.recv⟩
  · exact hs.elim
theorem xmW1 {α : Type} {pre : α → Int32 → XW → Prop} {post : α → Int32 → XW → Int32 → XW → Prop} {G : GG} : Mono (xW1 pre post G) := by
  intro as h Q Q' hQ hs
  unfold xW1 at hs ⊢
  split at hs
  · obtain ⟨S, a, h1, h2, h3⟩ := hs
    exact ⟨S, a, h1, h2, fun v S' h' p1 p2 p3 => hQ _ _ (h3 v S' h' p1 p2 p3)⟩
  · exact hs.elim
theorem xrW1 {α : Type} {pre : α → Int32 → XW → Prop} {post : α → Int32 → XW → Int32 → XW → Prop} {G : GG} : ∀ as h Q, as.length = 1 + 1 → xW1 pre post G as h Q → ∃ b as', as = .ref b :: as' ∧ ∃ fs, h b = some (.inr (0, fs)) := by
  intro as h Q _ hs
  unfold xW1 at hs
  split at hs
  · obtain ⟨S, a, h1, h2, h3⟩ := hs
    exact ⟨_, _, rfl, h1.recv⟩
  · exact hs.elim
theorem xmV1 {α : Type} {pre : α → Int32 → XW → Prop} {post : α → Int32 → XW → XW → Prop} {G : GG} : Mono (xV1 pre post G) := by
  intro as h Q Q' hQ hs
  unfold xV1 at hs ⊢
  split at hs
  · obtain ⟨S, a, h1, h2, h3⟩ := hs
    exact ⟨S, a, h1, h2, fun S' h' p1 p2 p3 => hQ _ _ (h3 S' h' p1 p2 p3)⟩
  · exact hs.elim
theorem xrV1 {α : Type} {pre : α → Int32 → XW → Prop} {post : α → Int32 → XW → XW → Prop} {G : GG} : ∀ as h Q, as.length = 1 + 1 → xV1 pre post G as h Q → ∃ b as', as = .ref b :: as' ∧ ∃ fs, h b = some (.inr (0, fs)) := by
  intro as h Q _ hs
  unfold xV1 at hs
  split at hs
  · obtain ⟨S, a, h1, h2, h3⟩ := hs
    exact ⟨_, _, rfl, h1.recv⟩
  · exact hs.elim
def xR2 {α : Type} (pre : α → Int32 → Int32 → XW → Prop) (f : α → Int32 → Int32 → XW → Int32) : GG → CSpec := fun G as h Q => match as with
  | [.ref b, .int x1, .int x2] => ∃ (S : XW) (a : α), IsX G b S h ∧ pre a x1 x2 S ∧ ∀ v, v = f a x1 x2 S → Q (some (.int v)) h
  | _ => False
def xW2 {α : Type} (pre : α → Int32 → Int32 → XW → Prop) (post : α → Int32 → Int32 → XW → Int32 → XW → Prop) : GG → CSpec := fun G as h Q => match as with
  | [.ref b, .int x1, .int x2] => ∃ (S : XW) (a : α), IsX G b S h ∧ pre a x1 x2 S ∧ ∀ v S' h', post a x1 x2 S v S' → IsX G b S' h' → FrX b h h' → Q (some (.int v)) h'
  | _ => False
def xV2 {α : Type} (pre : α → Int32 → Int32 → XW → Prop) (post : α → Int32 → Int32 → XW → XW → Prop) : GG → CSpec := fun G as h Q => match as with
  | [.ref b, .int x1, .int x2] => ∃ (S : XW) (a : α), IsX G b S h ∧ pre a x1 x2 S ∧ ∀ S' h', post a x1 x2 S S' → IsX G b S' h' → FrX b h h' → Q none h'
  | _ => False
theorem xmR2 {α : Type} {pre : α → Int32 → Int32 → XW → Prop} {f : α → Int32 → Int32 → XW → Int32} {G : GG} : Mono (xR2 pre f G) := by
  intro as h Q Q' hQ hs
  unfold xR2 at hs ⊢
  split at hs
  · obtain ⟨S, a, h1, h2, h3⟩ := hs
    exact ⟨S, a, h1, h2, fun v e => hQ _ _ (h3 v e)⟩
  · exact hs.elim
theorem xrR2 {α : Type} {pre : α → Int32 → Int32 → XW → Prop} {f : α → Int32 → Int32 → XW → Int32} {G : GG} : ∀ as h Q, as.length = 2 + 1 → xR2 pre f G as h Q → ∃ b as', as = .ref b :: as' ∧ ∃ fs, h b = some (.inr (0, fs)) := by
  intro as h Q _ hs
  unfold xR2 at hs
  split at hs
  · obtain ⟨S, a, h1, h2, h3⟩ := hs
    exact ⟨_, _, rfl, h1.recv⟩
  · exact hs.elim
theorem xmW2 {α : Type} {pre : α → Int32 → Int32 → XW → Prop} {post : α → Int32 → Int32 → XW → Int32 → XW → Prop} {G : GG} : Mono (xW2 pre post G) := by
  intro as h Q Q' hQ hs
  unfold xW2 at hs ⊢
  split at hs
  · obtain ⟨S, a, h1, h2, h3⟩ := hs
    exact ⟨S, a, h1, h2, fun v S' h' p1 p2 p3 => hQ _ _ (h3 v S' h' p1 p2 p3)⟩
  · exact hs.elim
theorem xrW2 {α : Type} {pre : α → Int32 → Int32 → XW → Prop} {post : α → Int32 → Int32 → XW → Int32 → XW → Prop} {G : GG} : ∀ as h Q, as.length = 2 + 1 → xW2 pre post G as h Q → ∃ b as', as = .ref b :: as' ∧ ∃ fs, h b = some (.inr (0, fs)) := by
  intro as h Q _ hs
  unfold xW2 at hs
  split at hs
  · obtain ⟨S, a, h1, h2, h3⟩ := hs
    exact ⟨_, _, rfl, h1.recv⟩
  · exact hs.elim
theorem xmV2 {α : Type} {pre : α → Int32 → Int32 → XW → Prop} {post : α → Int32 → Int32 → XW → XW → Prop} {G : GG} : Mono (xV2 pre post G) := by
  intro as h Q Q' hQ hs
  unfold xV2 at hs ⊢
  split at hs
  · obtain ⟨S, a, h1, h2, h3⟩ := hs
    exact ⟨S, a, h1, h2, fun S' h' p1 p2 p3 => hQ _ _ (h3 S' h' p1 p2 p3)⟩
  · exact hs.elim
theorem xrV2 {α : Type} {pre : α → Int32 → Int32 → XW → Prop} {post : α → Int32 → Int32 → XW → XW → Prop} {G : GG} : ∀ as h Q, as.length = 2 + 1 → xV2 pre post G as h Q → ∃ b as', as = .ref b :: as' ∧ ∃ fs, h b = some (.inr (0, fs)) := by
  intro as h Q _ hs
  unfold xV2 at hs
  split at hs
  · obtain ⟨S, a, h1, h2, h3⟩ := hs
    exact ⟨_, _, rfl, h1.recv⟩
  · exact hs.elim
def xR3 {α : Type} (pre : α → Int32 → Int32 → Int32 → XW → Prop) (f : α → Int32 → Int32 → Int32 → XW → Int32) : GG → CSpec := fun G as h Q => match as with
  | [.ref b, .int x1, .int x2, .int x3] => ∃ (S : XW) (a : α), IsX G b S h ∧ pre a x1 x2 x3 S ∧ ∀ v, v = f a x1 x2 x3 S → Q (some (.int v)) h
  | _ => False
def xW3 {α : Type} (pre : α → Int32 → Int32 → Int32 → XW → Prop) (post : α → Int32 → Int32 → Int32 → XW → Int32 → XW → Prop) : GG → CSpec := fun G as h Q => match as with
  | [.ref b, .int x1, .int x2, .int x3] => ∃ (S : XW) (a : α), IsX G b S h ∧ pre a x1 x2 x3 S ∧ ∀ v S' h', post a x1 x2 x3 S v S' → IsX G b S' h' → FrX b h h' → Q (some (.int v)) h'
  | _ => False
def xV3 {α : Type} (pre : α → Int32 → Int32 → Int32 → XW → Prop) (post : α → Int32 → Int32 → Int32 → XW → XW → Prop) : GG → CSpec := fun G as h Q => match as with
  | [.ref b, .int x1, .int x2, .int x3] => ∃ (S : XW) (a : α), IsX G b S h ∧ pre a x1 x2 x3 S ∧ ∀ S' h', post a x1 x2 x3 S S' → IsX G b S' h' → FrX b h h' → Q none h'
  | _ => False
theorem xmR3 {α : Type} {pre : α → Int32 → Int32 → Int32 → XW → Prop} {f : α → Int32 → Int32 → Int32 → XW → Int32} {G : GG} : Mono (xR3 pre f G) := by
  intro as h Q Q' hQ hs
  unfold xR3 at hs ⊢
  split at hs
  · obtain ⟨S, a, h1, h2, h3⟩ := hs
    exact ⟨S, a, h1, h2, fun v e => hQ _ _ (h3 v e)⟩
  · exact hs.elim
theorem xrR3 {α : Type} {pre : α → Int32 → Int32 → Int32 → XW → Prop} {f : α → Int32 → Int32 → Int32 → XW → Int32} {G : GG} : ∀ as h Q, as.length = 3 + 1 → xR3 pre f G as h Q → ∃ b as', as = .ref b :: as' ∧ ∃ fs, h b = some (.inr (0, fs)) := by
  intro as h Q _ hs
  unfold xR3 at hs
  split at hs
  · obtain ⟨S, a, h1, h2, h3⟩ := hs
    exact ⟨_, _, rfl, h1.recv⟩
  · exact hs.elim
theorem xmW3 {α : Type} {pre : α → Int32 → Int32 → Int32 → XW → Prop} {post : α → Int32 → Int32 → Int32 → XW → Int32 → XW → Prop} {G : GG} : Mono (xW3 pre post G) := by
  intro as h Q Q' hQ hs
  unfold xW3 at hs ⊢
  split at hs
  · obtain ⟨S, a, h1, h2, h3⟩ := hs
    exact ⟨S, a, h1, h2, fun v S' h' p1 p2 p3 => hQ _ _ (h3 v S' h' p1 p2 p3)⟩
  · exact hs.elim
theorem xrW3 {α : Type} {pre : α → Int32 → Int32 → Int32 → XW → Prop} {post : α → Int32 → Int32 → Int32 → XW → Int32 → XW → Prop} {G : GG} : ∀ as h Q, as.length = 3 + 1 → xW3 pre post G as h Q → ∃ b as', as = .ref b :: as' ∧ ∃ fs, h b = some (.inr (0, fs)) := by
  intro as h Q _ hs
  unfold xW3 at hs
  split at hs
  · obtain ⟨S, a, h1, h2, h3⟩ := hs
    exact ⟨_, _, rfl, h1.recv⟩
  · exact hs.elim
theorem xmV3 {α : Type} {pre : α → Int32 → Int32 → Int32 → XW → Prop} {post : α → Int32 → Int32 → Int32 → XW → XW → Prop} {G : GG} : Mono (xV3 pre post G) := by
  intro as h Q Q' hQ hs
  unfold xV3 at hs ⊢
  split at hs
  · obtain ⟨S, a, h1, h2, h3⟩ := hs
    exact ⟨S, a, h1, h2, fun S' h' p1 p2 p3 => hQ _ _ (h3 S' h' p1 p2 p3)⟩
  · exact hs.elim
theorem xrV3 {α : Type} {pre : α → Int32 → Int32 → Int32 → XW → Prop} {post : α → Int32 → Int32 → Int32 → XW → XW → Prop} {G : GG} : ∀ as h Q, as.length = 3 + 1 → xV3 pre post G as h Q → ∃ b as', as = .ref b :: as' ∧ ∃ fs, h b = some (.inr (0, fs)) := by
  intro as h Q _ hs
  unfold xV3 at hs
  split at hs
  · obtain ⟨S, a, h1, h2, h3⟩ := hs
    exact ⟨_, _, rfl, h1.recv⟩
  · exact hs.elim
def xR4 {α : Type} (pre : α → Int32 → Int32 → Int32 → Int32 → XW → Prop) (f : α → Int32 → Int32 → Int32 → Int32 → XW → Int32) : GG → CSpec := fun G as h Q => match as with
  | [.ref b, .int x1, .int x2, .int x3, .int x4] => ∃ (S : XW) (a : α), IsX G b S h ∧ pre a x1 x2 x3 x4 S ∧ ∀ v, v = f a x1 x2 x3 x4 S → Q (some (.int v)) h
  | _ => False
def xW4 {α : Type} (pre : α → Int32 → Int32 → Int32 → Int32 → XW → Prop) (post : α → Int32 → Int32 → Int32 → Int32 → XW → Int32 → XW → Prop) : GG → CSpec := fun G as h Q => match as with
  | [.ref b, .int x1, .int x2, .int x3, .int x4] => ∃ (S : XW) (a : α), IsX G b S h ∧ pre a x1 x2 x3 x4 S ∧ ∀ v S' h', post a x1 x2 x3 x4 S v S' → IsX G b S' h' → FrX b h h' → Q (some (.int v)) h'
  | _ => False
def xV4 {α : Type} (pre : α → Int32 → Int32 → Int32 → Int32 → XW → Prop) (post : α → Int32 → Int32 → Int32 → Int32 → XW → XW → Prop) : GG → CSpec := fun G as h Q => match as with
  | [.ref b, .int x1, .int x2, .int x3, .int x4] => ∃ (S : XW) (a : α), IsX G b S h ∧ pre a x1 x2 x3 x4 S ∧ ∀ S' h', post a x1 x2 x3 x4 S S' → IsX G b S' h' → FrX b h h' → Q none h'
  | _ => False
theorem xmR4 {α : Type} {pre : α → Int32 → Int32 → Int32 → Int32 → XW → Prop} {f : α → Int32 → Int32 → Int32 → Int32 → XW → Int32} {G : GG} : Mono (xR4 pre f G) := by
  intro as h Q Q' hQ hs
  unfold xR4 at hs ⊢
  split at hs
  · obtain ⟨S, a, h1, h2, h3⟩ := hs
    exact ⟨S, a, h1, h2, fun v e => hQ _ _ (h3 v e)⟩
  · exact hs.elim
theorem xrR4 {α : Type} {pre : α → Int32 → Int32 → Int32 → Int32 → XW → Prop} {f : α → Int32 → Int32 → Int32 → Int32 → XW → Int32} {G : GG} : ∀ as h Q, as.length = 4 + 1 → xR4 pre f G as h Q → ∃ b as', as = .ref b :: as' ∧ ∃ fs, h b = some (.inr (0, fs)) := by
  intro as h Q _ hs
  unfold xR4 at hs
  split at hs
  · obtain ⟨S, a, h1, h2, h3⟩ := hs
    exact ⟨_, _, rfl, h1.recv⟩
  · exact hs.elim
theorem xmW4 {α : Type} {pre : α → Int32 → Int32 → Int32 → Int32 → XW → Prop} {post : α → Int32 → Int32 → Int32 → Int32 → XW → Int32 → XW → Prop} {G : GG} : Mono (xW4 pre post G) := by
  intro as h Q Q' hQ hs
  unfold xW4 at hs ⊢
  split at hs
  · obtain ⟨S, a, h1, h2, h3⟩ := hs
    exact ⟨S, a, h1, h2, fun v S' h' p1 p2 p3 => hQ _ _ (h3 v S' h' p1 p2 p3)⟩
  · exact hs.elim
theorem xrW4 {α : Type} {pre : α → Int32 → Int32 → Int32 → Int32 → XW → Prop} {post : α → Int32 → Int32 → Int32 → Int32 → XW → Int32 → XW → Prop} {G : GG} : ∀ as h Q, as.length = 4 + 1 → xW4 pre post G as h Q → ∃ b as', as = .ref b :: as' ∧ ∃ fs, h b = some (.inr (0, fs)) := by
  intro as h Q _ hs
  unfold xW4 at hs
  split at hs
  · obtain ⟨S, a, h1, h2, h3⟩ := hs
    exact ⟨_, _, rfl, h1.recv⟩
  · exact hs.elim
theorem xmV4 {α : Type} {pre : α → Int32 → Int32 → Int32 → Int32 → XW → Prop} {post : α → Int32 → Int32 → Int32 → Int32 → XW → XW → Prop} {G : GG} : Mono (xV4 pre post G) := by
  intro as h Q Q' hQ hs
  unfold xV4 at hs ⊢
  split at hs
  · obtain ⟨S, a, h1, h2, h3⟩ := hs
    exact ⟨S, a, h1, h2, fun S' h' p1 p2 p3 => hQ _ _ (h3 S' h' p1 p2 p3)⟩
  · exact hs.elim
theorem xrV4 {α : Type} {pre : α → Int32 → Int32 → Int32 → Int32 → XW → Prop} {post : α → Int32 → Int32 → Int32 → Int32 → XW → XW → Prop} {G : GG} : ∀ as h Q, as.length = 4 + 1 → xV4 pre post G as h Q → ∃ b as', as = .ref b :: as' ∧ ∃ fs, h b = some (.inr (0, fs)) := by
  intro as h Q _ hs
  unfold xV4 at hs
  split at hs
  · obtain ⟨S, a, h1, h2, h3⟩ := hs
    exact ⟨_, _, rfl, h1.recv⟩
  · exact hs.elim
def xR5 {α : Type} (pre : α → Int32 → Int32 → Int32 → Int32 → Int32 → XW → Prop) (f : α → Int32 → Int32 → Int32 → Int32 → Int32 → XW → Int32) : GG → CSpec := fun G as h Q => match as with
  | [.ref b, .int x1, .int x2, .int x3, .int x4, .int x5] => ∃ (S : XW) (a : α), IsX G b S h ∧ pre a x1 x2 x3 x4 x5 S ∧ ∀ v, v = f a x1 x2 x3 x4 x5 S → Q (some (.int v)) h
  | _ => False
def xW5 {α : Type} (pre : α → Int32 → Int32 → Int32 → Int32 → Int32 → XW → Prop) (post : α → Int32 → Int32 → Int32 → Int32 → Int32 → XW → Int32 → XW → Prop) : GG → CSpec := fun G as h Q => match as with
  | [.ref b, .int x1, .int x2, .int x3, .int x4, .int x5] => ∃ (S : XW) (a : α), IsX G b S h ∧ pre a x1 x2 x3 x4 x5 S ∧ ∀ v S' h', post a x1 x2 x3 x4 x5 S v S' → IsX G b S' h' → FrX b h h' → Q (some (.int v)) h'
  | _ => False
def xV5 {α : Type} (pre : α → Int32 → Int32 → Int32 → Int32 → Int32 → XW → Prop) (post : α → Int32 → Int32 → Int32 → Int32 → Int32 → XW → XW → Prop) : GG → CSpec := fun G as h Q => match as with
  | [.ref b, .int x1, .int x2, .int x3, .int x4, .int x5] => ∃ (S : XW) (a : α), IsX G b S h ∧ pre a x1 x2 x3 x4 x5 S ∧ ∀ S' h', post a x1 x2 x3 x4 x5 S S' → IsX G b S' h' → FrX b h h' → Q none h'
  | _ => False
theorem xmR5 {α : Type} {pre : α → Int32 → Int32 → Int32 → Int32 → Int32 → XW → Prop} {f : α → Int32 → Int32 → Int32 → Int32 → Int32 → XW → Int32} {G : GG} : Mono (xR5 pre f G) := by
  intro as h Q Q' hQ hs
  unfold xR5 at hs ⊢
  split at hs
  · obtain ⟨S, a, h1, h2, h3⟩ := hs
    exact ⟨S, a, h1, h2, fun v e => hQ _ _ (h3 v e)⟩
  · exact hs.elim
theorem xrR5 {α : Type} {pre : α → Int32 → Int32 → Int32 → Int32 → Int32 → XW → Prop} {f : α → Int32 → Int32 → Int32 → Int32 → Int32 → XW → Int32} {G : GG} : ∀ as h Q, as.length = 5 + 1 → xR5 pre f G as h Q → ∃ b as', as = .ref b :: as' ∧ ∃ fs, h b = some (.inr (0, fs)) := by
  intro as h Q _ hs
  unfold xR5 at hs
  split at hs
  · obtain ⟨S, a, h1, h2, h3⟩ := hs
    exact ⟨_, _, rfl, h1.recv⟩
  · exact hs.elim
theorem xmW5 {α : Type} {pre : α → Int32 → Int32 → Int32 → Int32 → Int32 → XW → Prop} {post : α → Int32 → Int32 → Int32 → Int32 → Int32 → XW → Int32 → XW → Prop} {G : GG} : Mono (xW5 pre post G) := by
  intro as h Q Q' hQ hs
  unfold xW5 at hs ⊢
  split at hs
  · obtain ⟨S, a, h1, h2, h3⟩ := hs
    exact ⟨S, a, h1, h2, fun v S' h' p1 p2 p3 => hQ _ _ (h3 v S' h' p1 p2 p3)⟩
  · exact hs.elim
theorem xrW5 {α : Type} {pre : α → Int32 → Int32 → Int32 → Int32 → Int32 → XW → Prop} {post : α → Int32 → Int32 → Int32 → Int32 → Int32 → XW → Int32 → XW → Prop} {G : GG} : ∀ as h Q, as.length = 5 + 1 → xW5 pre post G as h Q → ∃ b as', as = .ref b :: as' ∧ ∃ fs, h b = some (.inr (0, fs)) := by
  intro as h Q _ hs
  unfold xW5 at hs
  split at hs
  · obtain ⟨S, a, h1, h2, h3⟩ := hs
    exact ⟨_, _, rfl, h1.recv⟩
  · exact hs.elim
theorem xmV5 {α : Type} {pre : α → Int32 → Int32 → Int32 → Int32 → Int32 → XW → Prop} {post : α → Int32 → Int32 → Int32 → Int32 → Int32 → XW → XW → Prop} {G : GG} : Mono (xV5 pre post G) := by
  intro as h Q Q' hQ hs
  unfold xV5 at hs ⊢
  split at hs
  · obtain ⟨S, a, h1, h2, h3⟩ := hs
    exact ⟨S, a, h1, h2, fun S' h' p1 p2 p3 => hQ _ _ (h3 S' h' p1 p2 p3)⟩
  · exact hs.elim
theorem xrV5 {α : Type} {pre : α → Int32 → Int32 → Int32 → Int32 → Int32 → XW → Prop} {post : α → Int32 → Int32 → Int32 → Int32 → Int32 → XW → XW → Prop} {G : GG} : ∀ as h Q, as.length = 5 + 1 → xV5 pre post G as h Q → ∃ b as', as = .ref b :: as' ∧ ∃ fs, h b = some (.inr (0, fs)) := by
  intro as h Q _ hs
  unfold xV5 at hs
  split at hs
  · obtain ⟨S, a, h1, h2, h3⟩ := hs
    exact ⟨_, _, rfl, h1.recv⟩
  · exact hs.elim
