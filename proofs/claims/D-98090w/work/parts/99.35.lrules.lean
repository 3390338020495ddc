set_option maxRecDepth 100000
/-! THE LAW: the script read; what the calls ask, out of the relation -/
def lw_Q (_ : Array Value) (s : State) (o : Outcome) (t : State) : Prop := o = .returned (some (.int 1)) ∧ Framed s o t [] 601024 7293034
def lw_Z (below : List Frame) (a : Array Value) (s : State) : State → Prop := fun t => ∃ o, t.status = .running ∧ Ended t below o ∧ lw_Q a s o t
def ScrO (G : GG) (b L : Nat) (xs : Nat → Int32) (args : Array Value) (s : State) : Prop := va_X b L xs s G.2.2.1 ∧ args = #[Value.ref b] ∧ G.2.2.1 = s.heap
def TGl (G : GG) (b L : Nat) (xs : Nat → Int32) : List Frame → Array Value → State → Program → Env → MethodId → Method → Code → State → Prop := fun below args s _ _ _ _ _ t => ScrO G b L xs args s → lw_Z below args s t
abbrev RMl : Room := rmK 2500 601024 7293034
section LR
variable {l : Launch} {G : GG} {M : Mth} {rm : Room} {b L : Nat} {xs : Nat → Int32} {cs ss pc z : Nat} {Lo : LL} {st : List Value} {h : AH} {pg : List IE} {idx : Nat} {v0 : Int32} {t0 : Nat} {r0 : List IE}
theorem X.scr {j : Nat} {i : Int32} (hpg : PgOk M pg) (hsk : seek pg pc = (pc, .iaload, 1, v0, t0) :: r0) (hi : IX i L j) (k : X l G M rm (TGl G b L xs) cs ss (pc + 1) Lo (.int (xs j) :: st) h z) : X l G M rm (TGl G b L xs) cs ss pc Lo (.int i :: .ref b :: st) h z := by
  intro p e s m args below meth c H locs ls E C0 R hq hl T hT X9
  by_cases A : ScrO G b L xs args s
  · obtain ⟨cell, h1, h2, h3, h4, h5⟩ := A.1
    have hlt : b < G.2.2.1.size := (Array.getElem?_eq_some_iff.mp h1).1
    have hc : H[b]? = some cell := by rw [R.2.2.1 b hlt]; exact h1
    obtain ⟨g1, g2⟩ := hi.vp
    have hlj : j < L := hi.2.1
    have hin' : ¬ (i < 0 ∨ cell.slots.size ≤ i.toNatClampNeg) := by
      rw [h4]; exact g1
    exact W.iald (v := .int (xs j)) E.1 E.2.1 hc h2 h3 hin' (by rw [g2]; exact h5 j hlj) rfl rfl (pg_at hpg hsk) (k p e s m args below meth c H locs ls E C0 R hq hl) T hT X9
  · exact ⟨_, Steps.refl _, fun a => absurd a A⟩
theorem X.slen (hL : L < 2147483648) (hpg : PgOk M pg) (hsk : seek pg pc = (pc, .arraylength, 1, v0, t0) :: r0) (k : X l G M rm (TGl G b L xs) cs ss (pc + 1) Lo (.int (nI L) :: st) h z) : X l G M rm (TGl G b L xs) cs ss pc Lo (.ref b :: st) h z := by
  intro p e s m args below meth c H locs ls E C0 R hq hl T hT X9
  by_cases A : ScrO G b L xs args s
  · obtain ⟨cell, h1, h2, h3, h4, h5⟩ := A.1
    have hlt : b < G.2.2.1.size := (Array.getElem?_eq_some_iff.mp h1).1
    have hc : H[b]? = some cell := by rw [R.2.2.1 b hlt]; exact h1
    exact W.alen (n := Int32.ofNat L) E.1 E.2.1 hc h2 (by rw [h4]) rfl rfl (pg_at hpg hsk) (k p e s m args below meth c H locs ls E C0 R hq hl) T hT X9
  · exact ⟨_, Steps.refl _, fun a => absurd a A⟩
end LR
section LP
variable {W : XW} {M : SS}
theorem RelX.b8 (r : RelX W M) : Bd 12 (M 0 8) := r.pn.2.1
theorem RelX.b12 (r : RelX W M) : Bd 6 (M 0 12) := r.pn.1
theorem RelX.b47 (r : RelX W M) : Bd 100 (M 1 347) := r.pn.2.2
theorem RelX.m16 (r : RelX W M) : M 0 12 = W.S 0 0 16 := r.w.2.2.2.1 4
theorem RelX.pos (r : RelX W M) : ∀ p, p < gN (M 0 12) → ∃ c, c < 64 ∧ M 1 (256 + p) = nI c := by
  intro p hp
  rw [r.m16] at hp
  have h1 : M 1 (256 + p) = W.S 0 (113 + 2 * p) 1 := r.w.2.2.1 6 p hp
  have h2 : Bd 63 (W.S 0 (113 + 2 * p) 1) := (r.w.2.1 4 p hp).1
  exact ⟨gN (W.S 0 (113 + 2 * p) 1), by have := h2.2; omega, h1.trans h2.1⟩
theorem RelX.aco (r : RelX W M) {u : Nat} (hu : M 0 3 = nI u) (hu2 : u ≤ 12) : AcO M u := ⟨hu, hu2, r.b12, r.b8, r.b47, r.pos⟩
theorem RelX.acw (r : RelX W M) : ∀ c, c < 64 → ¬ M 1 c = 0 → ∃ k, k < 12 ∧ M 1 c - 1 = nI k ∧ (M 6 k = -1 ∨ ∃ j, j < 12 ∧ M 6 k = nI j) := by
  intro c hc h0
  have h1 : M 1 c = W.S 0 2 c + 1 := r.w.2.2.1 2 c hc
  have h2 : W.S 0 2 c = -1 ∨ (Bd 11 (W.S 0 2 c) ∧ gN (W.S 0 2 c) < gN (W.S 0 0 15) ∧ isCellB (W.S 0) (nI c) = true) := r.w.2.1 2 c hc
  rcases h2 with h2 | ⟨h2, h3, -⟩
  · rw [h2] at h1; exact absurd h1 h0
  · have h4 := r.wd1 hc
    have h5 : M 6 (gN (W.S 0 2 c)) = W.S 0 9 (gN (W.S 0 2 c)) := (r.w.2.2.2.1 11 _ h3).2.2
    have h6 : W.S 0 9 (gN (W.S 0 2 c)) = -1 ∨ (Bd 11 (W.S 0 9 (gN (W.S 0 2 c))) ∧ gN (W.S 0 9 (gN (W.S 0 2 c))) < gN (W.S 0 0 15)) := (r.w.1 10 _ h3).2.2
    refine ⟨gN (W.S 0 2 c), by have := h2.2; omega, h4.trans h2.1, ?_⟩
    rw [h5]
    rcases h6 with h6 | ⟨h6, -⟩
    · exact Or.inl h6
    · exact Or.inr ⟨_, by have := h6.2; omega, h6.1⟩
theorem RelX.good (r : RelX W M) : GoodM (W.Ls 0) (gN (W.S 0 0 16)) M := by
  have h1 : Bd 6 (W.S 0 0 16) := r.w.1 4
  exact ⟨r.w.2.2.2.2, r.m16.trans h1.1, h1.2, r.ge⟩
theorem RelX.rdo (r : RelX W M) : ∃ n, n ≤ 400 ∧ W.F 1 = nI n ∧ RdO M n ∧ ∀ k, k < n → (W.T k &&& 255) = M 8 k ∧ ∃ y, y < 256 ∧ M 8 k = nI y ∧ W.T k = (W.T k).toInt8.toInt32 := by
  obtain ⟨n, h1, h2, h3, h4⟩ := r.t
  refine ⟨n, h1, h2, ⟨h3, h1, fun i hi => ?_, fun i hi => ?_⟩, h4⟩
  · rw [r.e.2.2]; unfold wtb; rw [if_pos hi]
  · obtain ⟨-, y, hy, e, -⟩ := h4 i hi
    rw [e]; exact nI_pos' (by omega)
theorem RelX.undo (r : RelX W M) : ∃ u, u ≤ 12 ∧ W.F 8 = nI u ∧ M 0 3 = nI u := by
  obtain ⟨u, h1, h2, h3, -⟩ := r.u
  exact ⟨u, h1, h2, h3⟩
theorem RelX.imgs (r : RelX W M) : ∃ q, W.F 9 = bI q ∧ M 0 47 = bI q ∧ (q = true → BW (W.S 1)) := by
  obtain ⟨q, h1, h2, h3⟩ := r.i
  exact ⟨q, h1, h2, fun e => ⟨(h3 e).1 4, (h3 e).1 3, (h3 e).2.1 0⟩⟩
end LP
