set_option maxRecDepth 100000
/-! CLASS AND MODEL, CALL BY CALL -/
theorem RelU.z {W : XW} {M : SS} (h1 : W.F 8 = 0) (h2 : M 0 3 = 0) : RelU W M := ⟨0, by omega, h1, h2, fun k h => by omega, fun k h => by omega, fun k k' h1 h2 => by omega⟩
theorem RelU.keep {W W' : XW} {M M' : SS} (r : RelU W M) (hF : W'.F 8 = W.F 8) (h3 : M' 0 3 = M 0 3) (h2 : M' 2 = M 2) (hpi : W'.pi = W.pi) (hS : ∀ j, 3 ≤ j → W'.S j = W.S j) (e15 : W'.S 0 0 15 = W.S 0 0 15) (h16 : W'.S 0 0 16 = W.S 0 0 16) (hc : ∀ c, isCellB (W'.S 0) c = isCellB (W.S 0) c) (h17 : gN (W.S 0 0 17) ≤ gN (W'.S 0 0 17)) : RelU W' M' := by
  obtain ⟨u, a1, a2, a3, a4, a5, a6⟩ := r
  refine ⟨u, a1, hF.trans a2, h3.trans a3, fun k hk => ?_, fun k hk => ?_, fun k k' hk hk' => ?_⟩
  · rw [hpi, hS _ (by omega)]
    obtain ⟨b1, b2⟩ := a4 k hk
    refine ⟨by rw [h16, h2]; exact b1, XN.of (show Bd 100 (W.S (3 + W.pi k) 0 17) from b2 0) (show Bd 99 (W.S (3 + W.pi k) 0 20) from b2 1) ?_ (show ∀ c, c < 64 → W.S (3 + W.pi k) 2 c ≠ -1 → Bd 999 (W.S (3 + W.pi k) 3 c) from b2 3) ?_ ?_⟩
    · intro c hc2
      rw [e15, hc]; exact b2 2 c hc2
    · intro p hp
      rw [h16] at hp
      rw [hc]; exact b2 4 p hp
    · intro p hp
      rw [h16] at hp
      exact b2 5 p hp
  · rw [hpi, hS _ (by omega)]
    have := a5 k hk
    omega
  · rw [hpi, hS _ (by omega), hS _ (by omega)]; exact a6 k k' hk hk'
theorem RelX.chg {W : XW} {M M' : SS} {os : List Nat} (r : RelX W M) (h : Chg os M M') (ho : os.all (mem1 [16, 17, 18, 19, 20, 21]) = true) : RelX W M' := by
  have e0 : M' 0 = M 0 := h 0 (mem1_sub ho rfl)
  have e2 : M' 2 = M 2 := h 2 (mem1_sub ho rfl)
  have e8 : M' 8 = M 8 := h 8 (mem1_sub ho rfl)
  have e9 : M' 9 = M 9 := h 9 (mem1_sub ho rfl)
  have e22 : M' 22 = M 22 := h 22 (mem1_sub ho rfl)
  refine ⟨r.w.chg h (fun o k hv => mem1_sub ho ?_), r.u.keep rfl (by rw [e0]) e2 rfl (fun _ _ => rfl) rfl rfl (fun _ => rfl) (Nat.le_refl _), ?_, ?_, ?_⟩
  · have h9 : o = 0 ∨ o = 1 ∨ o = 3 ∨ o = 4 ∨ o = 5 ∨ o = 6 ∨ o = 7 ∨ o = 10 ∨ o = 11 ∨ o = 12 ∨ o = 13 ∨ o = 14 := by unfold vpos at hv; omega
    rcases h9 with rfl | rfl | rfl | rfl | rfl | rfl | rfl | rfl | rfl | rfl | rfl | rfl <;> rfl
  · obtain ⟨t, h1, h2, h3, h4⟩ := r.t
    exact ⟨t, h1, h2, by rw [e0]; exact h3, fun k hk => by rw [e8]; exact h4 k hk⟩
  · obtain ⟨q, h1, h2, h3⟩ := r.i
    exact ⟨q, h1, by rw [e0]; exact h2, fun e => by rw [e22]; exact h3 e⟩
  · obtain ⟨h1, h2, h3⟩ := r.e
    exact ⟨by rw [e0]; exact h1, by rw [e0]; exact h2, by rw [e9]; exact h3⟩
theorem isIn_Bd {x : Int32} {B : Nat} (hB : B < 2 ^ 31) (h : isInB x 0 (nI B) = true) : Bd B x := by
  have h9 := isInB_t.mp h
  exact Bd.of hB h9.1 h9.2
theorem np3 : ¬ vpos 0 3 := by unfold vpos; omega
section JJ
variable {W W' : XW} {M M' : SS} {v v2 c x y u w q n : Int32}
theorem RelX.cellN (r : RelX W M) (h : isCellB (W.S 0) c = true) : gN c < 64 ∧ c = nI (gN c) ∧ Bd 63 c := by
  obtain ⟨j, hj, rfl⟩ := isCellM_lt r.sq (by rw [r.cell]; exact h)
  rw [gN_nI (by omega)]
  exact ⟨hj, rfl, bd_nI (by omega) (by decide)⟩
theorem j_state (r : RelX W M) (hx : v = W.S 0 0 18 ∧ W' = W.up 0 0 18 x) (hk : v2 = M 0 4 ∧ M' = up2 (tl M) 0 4 x) : v = v2 ∧ RelX W' M' := by
  obtain ⟨rfl, rfl⟩ := hx
  obtain ⟨rfl, rfl⟩ := hk
  exact ⟨(r.w.2.2.2.1 5).symm, r.tl.w.st x, r.u.keep rfl rfl rfl rfl (fun j hj => upN_n (by omega)) rfl rfl (fun _ => rfl) (Nat.le_refl _), r.t, r.i, r.e⟩
theorem j_damp (r : RelX W M) (hx : ((isCellB (W.S 0) c = true ∧ isInB x 0 99 = true) ∧ v = 1 ∧ W' = (W.up 0 1 (gN c) x).uF 8 0) ∨ (¬ (isCellB (W.S 0) c = true ∧ isInB x 0 99 = true) ∧ v = 0 ∧ W' = W)) (hk : ((isCellM M c = true ∧ isInB x 0 99 = true) ∧ v2 = 1 ∧ M' = up2 (up2 (tl M) 3 (gN c) (x - 10)) 0 3 0) ∨ (¬ (isCellM M c = true ∧ isInB x 0 99 = true) ∧ v2 = 0 ∧ M' = tl M)) : v = v2 ∧ RelX W' M' := by
  rcases hx with ⟨h1, rfl, rfl⟩ | ⟨h1, rfl, rfl⟩
  · rcases hk with ⟨h2, rfl, rfl⟩ | ⟨h2, rfl, rfl⟩
    · exact ⟨rfl, (r.tl.w.damp (r.cellN h1.1).1 (isIn_Bd (B := 99) (by decide) h1.2)).up np3, RelU.z rfl rfl, r.t, r.i, r.e⟩
    · exact absurd (⟨by rw [r.cell]; exact h1.1, h1.2⟩) h2
  · rcases hk with ⟨h2, rfl, rfl⟩ | ⟨h2, rfl, rfl⟩
    · exact absurd (⟨by rw [← r.cell]; exact h2.1, h2.2⟩) h1
    · exact ⟨rfl, r.tl⟩
theorem cures_ok {k : Nat} {u : Int32} (hk : k < 12) (h : isInB u (-1) (nI k) = true) : u = -1 ∨ (Bd 11 u ∧ gN u < k + 1) := by
  have h9 := isInB_t.mp h
  by_cases h0 : 0 ≤ u
  · have hb : Bd k u := Bd.of (by omega) h0 h9.2
    exact Or.inr ⟨hb.up (by omega), by have := hb.2; omega⟩
  · refine Or.inl (Int32.le_antisymm ?_ h9.1)
    have h8 : u < 0 := Int32.not_le.mp h0
    have h7 : u.toInt < 0 := by simpa [Int32.lt_iff_toInt_lt] using h8
    have h6 : (-1 : Int32).toInt = -1 := by decide
    rw [Int32.le_iff_toInt_le, h6]
    omega
theorem j_word (r : RelX W M) (hx : (wdCX W x y u ∧ v = W.S 0 0 15 ∧ W' = ((((W.up 0 7 (gN (W.S 0 0 15)) x).up 0 8 (gN (W.S 0 0 15)) y).up 0 9 (gN (W.S 0 0 15)) u).up 0 0 15 (W.S 0 0 15 + 1)).uF 8 0) ∨ (¬ wdCX W x y u ∧ v = -1 ∧ W' = W)) (hk : (wdC M x y u ∧ v2 = M 0 8 ∧ M' = up2 (up2 (up2 (up2 (up2 (tl M) 4 (gN (M 0 8)) x) 5 (gN (M 0 8)) y) 6 (gN (M 0 8)) u) 0 8 (M 0 8 + 1)) 0 3 0) ∨ (¬ wdC M x y u ∧ v2 = -1 ∧ M' = tl M)) : v = v2 ∧ RelX W' M' := by
  have e8 : M 0 8 = W.S 0 0 15 := r.w.2.2.2.1 3
  have hB := r.w.1 3
  unfold wdC at hk
  unfold wdCX at hx
  rw [e8] at hk
  rcases hx with ⟨h1, rfl, rfl⟩ | ⟨h1, rfl, rfl⟩
  · rcases hk with ⟨h2, rfl, rfl⟩ | ⟨h2, rfl, rfl⟩
    · have hk12 : gN (W.S 0 0 15) < 12 := by
        have h8 := hB.2
        rcases Nat.lt_or_ge (gN (W.S 0 0 15)) 12 with q | q
        · exact q
        · exact absurd (by show W.S 0 0 15 = 12; rw [hB.1, show gN (W.S 0 0 15) = 12 from by omega]; rfl) h1.2.2.2
      have hn : W.S 0 0 15 + 1 = nI (gN (W.S 0 0 15) + 1) := by
        have h9 := nI_1 (gN (W.S 0 0 15))
        rw [← hB.1] at h9
        exact h9
      have h9 := (r.tl.w.word hn hB.1 hk12 (isIn_Bd (B := 99) (by decide) h1.1) (isIn_Bd (B := 9) (by decide) h1.2.1) (cures_ok hk12 (by rw [← hB.1]; exact h1.2.2.1))).up (x := 0) np3
      exact ⟨rfl, h9, RelU.z rfl rfl, r.t, r.i, r.e⟩
    · exact absurd h1 h2
  · rcases hk with ⟨h2, rfl, rfl⟩ | ⟨h2, rfl, rfl⟩
    · exact absurd h2 h1
    · exact ⟨rfl, r.tl⟩
theorem j_person (r : RelX W M) (hx : ((isCellB (W.S 0) c = true ∧ ¬ W.S 0 0 16 = 6) ∧ v = W.S 0 0 16 ∧ W' = ((W.uS 0 (prS (W.S 0) (gN (W.S 0 0 16)) c)).up 0 0 16 (W.S 0 0 16 + 1)).uF 8 0) ∨ (¬ (isCellB (W.S 0) c = true ∧ ¬ W.S 0 0 16 = 6) ∧ v = -1 ∧ W' = W)) (hk : ((isCellM M c = true ∧ ¬ M 0 12 = 6) ∧ v2 = M 0 12 ∧ M' = up2 (up2 (up2 (tl M) 1 (256 + gN (M 0 12)) c) 0 12 (M 0 12 + 1)) 0 3 0) ∨ (¬ (isCellM M c = true ∧ ¬ M 0 12 = 6) ∧ v2 = -1 ∧ M' = tl M)) : v = v2 ∧ RelX W' M' := by
  have e8 : M 0 12 = W.S 0 0 16 := r.w.2.2.2.1 4
  have hB := r.w.1 4
  rw [e8, r.cell] at hk
  rcases hx with ⟨h1, rfl, rfl⟩ | ⟨h1, rfl, rfl⟩
  · rcases hk with ⟨h2, rfl, rfl⟩ | ⟨h2, rfl, rfl⟩
    · have hk6 : gN (W.S 0 0 16) < 6 := by
        have h8 := hB.2
        rcases Nat.lt_or_ge (gN (W.S 0 0 16)) 6 with q | q
        · exact q
        · exact absurd (by show W.S 0 0 16 = 6; rw [hB.1, show gN (W.S 0 0 16) = 6 from by omega]; rfl) h1.2
      have hn : W.S 0 0 16 + 1 = nI (gN (W.S 0 0 16)) + 1 := by rw [← hB.1]
      have h9 := (r.tl.w.person hB.1 hk6 ⟨(r.cellN h1.1).2.2, h1.1⟩).up (x := 0) np3
      rw [← hn] at h9
      exact ⟨rfl, h9, RelU.z rfl rfl, r.t, r.i, r.e⟩
    · exact absurd h1 h2
  · rcases hk with ⟨h2, rfl, rfl⟩ | ⟨h2, rfl, rfl⟩
    · exact absurd h2 h1
    · exact ⟨rfl, r.tl⟩
theorem j_set (r : RelX W M) (hx : ((isInB w 0 2 = true ∧ isInB x 0 1000 = true) ∧ v = 1 ∧ W' = stX W w x) ∨ (¬ (isInB w 0 2 = true ∧ isInB x 0 1000 = true) ∧ v = 0 ∧ W' = W)) (hk : ((isInB w 0 2 = true ∧ isInB x 0 1000 = true) ∧ v2 = 1 ∧ M' = stF M w x) ∨ (¬ (isInB w 0 2 = true ∧ isInB x 0 1000 = true) ∧ v2 = 0 ∧ M' = tl M)) : v = v2 ∧ RelX W' M' := by
  rcases hx with ⟨h1, rfl, rfl⟩ | ⟨h1, rfl, rfl⟩
  · rcases hk with ⟨h2, rfl, rfl⟩ | ⟨h2, rfl, rfl⟩
    · obtain ⟨k, -, hk2, rfl⟩ := isInB_nI (a := 0) (b := 2) (by decide) h1.1 (by decide)
      have hb : Bd 1000 x := isIn_Bd (B := 1000) (by decide) h1.2
      match k, hk2 with
      | 0, _ =>
        rw [show stX W (nI 0) x = (W.up 0 0 21 x).uF 8 0 from rfl, show stF M (nI 0) x = up2 (up2 (tl M) 0 13 x) 0 3 0 from rfl]
        exact ⟨rfl, (r.tl.w.s21 hb).up np3, RelU.z rfl rfl, r.t, r.i, r.e⟩
      | 1, _ =>
        rw [show stX W (nI 1) x = (W.up 0 0 22 x).uF 8 0 from rfl, show stF M (nI 1) x = up2 (up2 (tl M) 0 14 x) 0 3 0 from rfl]
        exact ⟨rfl, (r.tl.w.s22 hb).up np3, RelU.z rfl rfl, r.t, r.i, r.e⟩
      | 2, _ =>
        rw [show stX W (nI 2) x = (W.up 0 0 23 x).uF 8 0 from rfl, show stF M (nI 2) x = up2 (up2 (tl M) 0 15 x) 0 3 0 from rfl]
        exact ⟨rfl, (r.tl.w.s23 hb).up np3, RelU.z rfl rfl, r.t, r.i, r.e⟩
    · exact absurd (h1) h2
  · rcases hk with ⟨h2, rfl, rfl⟩ | ⟨h2, rfl, rfl⟩
    · exact absurd (h2) h1
    · exact ⟨rfl, r.tl⟩
theorem j_end (r : RelX W M) (hx : (isInB x 0 (W.F 1) = true ∧ v = 1 ∧ W' = W.uF 1 x) ∨ (¬ isInB x 0 (W.F 1) = true ∧ v = 0 ∧ W' = W)) (hk : (isInB x 0 (M 0 20) = true ∧ v2 = 1 ∧ M' = up2 (tl M) 0 20 x) ∨ (¬ isInB x 0 (M 0 20) = true ∧ v2 = 0 ∧ M' = tl M)) : v = v2 ∧ RelX W' M' := by
  obtain ⟨t, h1, h2, h3, h4⟩ := r.t
  rw [h2] at hx
  rw [h3] at hk
  rcases hx with ⟨h5, rfl, rfl⟩ | ⟨h5, rfl, rfl⟩
  · rcases hk with ⟨h6, rfl, rfl⟩ | ⟨h6, rfl, rfl⟩
    · obtain ⟨k, -, hk2, rfl⟩ := isInB_nI (a := 0) (b := t) (by omega) h5 (by omega)
      exact ⟨rfl, r.tl.w.up (by unfold vpos; omega), r.u, ⟨k, by omega, rfl, rfl, fun j hj => h4 j (by omega)⟩, r.i, r.e⟩
    · exact absurd h5 h6
  · rcases hk with ⟨h6, rfl, rfl⟩ | ⟨h6, rfl, rfl⟩
    · exact absurd h6 h5
    · exact ⟨rfl, r.tl⟩
theorem by_and (x : Int32) (k : Nat) : byX x k &&& 255 = byS x k := by
  unfold byX byS
  generalize x >>> (nI k &&& 31) = z
  apply Int32.toBitVec_inj.1
  rw [Int32.toBitVec_and, Int32.toBitVec_and]
  have e : z.toInt8.toInt32.toInt8.toInt32.toBitVec = BitVec.signExtend 32 (BitVec.signExtend 8 z.toBitVec) := by simp
  rw [e]
  apply BitVec.eq_of_getLsbD_eq
  intro i hi
  rw [BitVec.getLsbD_and, BitVec.getLsbD_and]
  by_cases h : i < 8
  · rw [BitVec.getLsbD_signExtend, BitVec.getLsbD_signExtend]
    simp [h, hi]
  · have e2 : ((255 : Int32).toBitVec).getLsbD i = false := by
      obtain ⟨j, rfl⟩ : ∃ j, i = 8 + j := ⟨i - 8, by omega⟩
      have : ∀ j, j < 24 → ((255 : Int32).toBitVec).getLsbD (8 + j) = false := by decide
      exact this j (by omega)
    rw [e2, Bool.and_false, Bool.and_false]
theorem byS_lt (x : Int32) (k : Nat) : ∃ y, y < 256 ∧ byS x k = nI y := by
  unfold byS
  generalize x >>> (nI k &&& 31) = z
  refine ⟨z.toBitVec.toNat &&& 255, Nat.lt_of_le_of_lt Nat.and_le_right (by decide), ?_⟩
  rw [← nx_and, nI_bv2]
  rfl
theorem by_all (x : Int32) (k : Nat) : byX x k &&& 255 = byS x k ∧ ∃ y, y < 256 ∧ byS x k = nI y ∧ byX x k = (byX x k).toInt8.toInt32 := by
  obtain ⟨y, h1, h2⟩ := byS_lt x k
  refine ⟨by_and x k, y, h1, h2, ?_⟩
  unfold byX
  simp
theorem typ_and {f g : Nat → Int32} {n : Nat} (x : Int32) (h : ∀ k, k < n → (f k &&& 255) = g k ∧ ∃ y, y < 256 ∧ g k = nI y ∧ f k = (f k).toInt8.toInt32) : ∀ k, k < n + 4 → (typX f n x k &&& 255) = typF g n x k ∧ ∃ y, y < 256 ∧ typF g n x k = nI y ∧ typX f n x k = (typX f n x k).toInt8.toInt32 := by
  intro k hk
  unfold typX typF
  by_cases e3 : k = n + 3
  · subst e3; rw [pk_us, pk_us]; exact by_all x 0
  rw [pk_un e3, pk_un e3]
  by_cases e2 : k = n + 2
  · subst e2; rw [pk_us, pk_us]; exact by_all x 8
  rw [pk_un e2, pk_un e2]
  by_cases e1 : k = n + 1
  · subst e1; rw [pk_us, pk_us]; exact by_all x 16
  rw [pk_un e1, pk_un e1]
  by_cases e0 : k = n
  · subst e0; rw [pk_us, pk_us]; exact by_all x 24
  rw [pk_un e0, pk_un e0]
  exact h k (by omega)
theorem j_feed {a : Nat} {x1 x2 x3 x4 x5 : Int32} (r : RelX W M) (ha : W.F 1 = nI a) (ha2 : a ≤ 400) (hx : (a ≤ 380 ∧ v = nI (a + 20) ∧ W' = fdX W a x1 x2 x3 x4 x5) ∨ (¬ a ≤ 380 ∧ v = -1 ∧ W' = W)) (hk : (a ≤ 380 ∧ v2 = nI (a + 20) ∧ M' = fdF M a x1 x2 x3 x4 x5) ∨ (¬ a ≤ 380 ∧ v2 = -1 ∧ M' = tl M)) : v = v2 ∧ RelX W' M' := by
  obtain ⟨t, h1, h2, h3, h4⟩ := r.t
  have e : t = a := (nI_eq (by omega) (by omega)).mp (h2.symm.trans ha)
  subst e
  rcases hx with ⟨h5, rfl, rfl⟩ | ⟨h5, rfl, rfl⟩
  · rcases hk with ⟨h6, rfl, rfl⟩ | ⟨h6, rfl, rfl⟩
    · refine ⟨rfl, ?_, r.u, ⟨t + 20, by omega, rfl, rfl, ?_⟩, r.i, r.e⟩
      · refine r.tl.w.congr (fun o k hv => ?_)
        have : o = 0 ∨ o = 1 ∨ o = 3 ∨ o = 4 ∨ o = 5 ∨ o = 6 ∨ o = 7 ∨ o = 10 ∨ o = 11 ∨ o = 12 ∨ o = 13 ∨ o = 14 := by unfold vpos at hv; omega
        rcases this with rfl | rfl | rfl | rfl | rfl | rfl | rfl | rfl | rfl | rfl | rfl | rfl
        · unfold fdF
          rw [up2_s, pk_un (by unfold vpos at hv; omega)]; rfl
        all_goals rfl
      · exact typ_and x5 (typ_and x4 (typ_and x3 (typ_and x2 (typ_and x1 h4))))
    · exact absurd h5 h6
  · rcases hk with ⟨h6, rfl, rfl⟩ | ⟨h6, rfl, rfl⟩
    · exact absurd h6 h5
    · exact ⟨rfl, r.tl⟩
theorem j_fault (r : RelX W M) : faultX W w = faultM (tl M) w := by
  obtain ⟨h1, h2, -⟩ := r.e
  unfold faultX faultM
  rw [h1, h2]
  rfl
theorem j_kind (r : RelX W M) : kindX W q w = kindM (tl M) q w := by
  unfold kindX kindM
  rw [show wnB (tl M) q = wnX W q from r.tl.wn q]
  by_cases h : wnX W q = true ∧ isInB w 0 2 = true
  · rw [if_pos h, if_pos h]
    obtain ⟨k, hk, -, rfl, hg⟩ := isIn_predI (r.w.1 3) (by decide) h.1
    obtain ⟨a1, a2, a3⟩ := r.tl.w.2.2.2.1 11 k hk
    rw [hg, a1, a2, a3]
  · rw [if_neg h, if_neg h]
theorem j_book (r : RelX W M) {i : Int32} : bookX W i w = bookM (tl M) i w := by
  unfold bookX bookM
  rw [show tl M 1 347 = W.S 0 0 17 from r.ln.2]
  by_cases h : isInB i 0 (W.S 0 0 17 - 1) = true ∧ isInB w 0 3 = true
  · rw [if_pos h, if_pos h]
    obtain ⟨k, hk, -, rfl, hg⟩ := isIn_predI r.ln.1 (by decide) h.1
    obtain ⟨j, -, hj, rfl⟩ := isInB_nI (a := 0) (b := 3) (by decide) h.2 (by decide)
    rw [hg, gN_nI (n := j) (by omega)]
    exact (r.bk hk (by omega)).symm
  · rw [if_neg h, if_neg h]
theorem RelX.c24 (r : RelX W M) (x : Int32) : RelX (W.up 0 0 24 x) M := ⟨r.w.c24 x, r.u.keep rfl rfl rfl rfl (fun j hj => upN_n (by omega)) rfl rfl (fun _ => rfl) (Nat.le_refl _), r.t, r.i, r.e⟩
theorem j_at (r : RelX W M) (hx : v = atM (tl M) (W.Ls 0) c w ∧ ∃ x, W' = W.up 0 0 24 x) (hk : v2 = atM (tl M) (W.Ls 0) c w ∧ Chg [16, 17, 18] (tl M) M') : v = v2 ∧ RelX W' M' := by
  obtain ⟨rfl, x, rfl⟩ := hx
  obtain ⟨rfl, h⟩ := hk
  exact ⟨rfl, (r.tl.c24 x).chg h rfl⟩
theorem j_soup (r : RelX W M) (hx : ((soC (tl M) q u w ∧ v = soV (tl M) q u w) ∨ (¬ soC (tl M) q u w ∧ v = -1)) ∧ ∃ R sp, W' = W.rs R sp) (hk : ((soC M q u w ∧ v2 = soV (tl M) q u w) ∨ (¬ soC M q u w ∧ v2 = -1)) ∧ Chg [20, 21] (tl M) M') : v = v2 ∧ RelX W' M' := by
  obtain ⟨hx, R, sp, rfl⟩ := hx
  obtain ⟨hk, h⟩ := hk
  have r2 : RelX (W.rs R sp) (tl M) := r.tl
  refine ⟨?_, r2.chg h rfl⟩
  rcases hx with ⟨h1, rfl⟩ | ⟨h1, rfl⟩
  · rcases hk with ⟨h2, rfl⟩ | ⟨h2, rfl⟩
    · rfl
    · exact absurd h1 h2
  · rcases hk with ⟨h2, rfl⟩ | ⟨h2, rfl⟩
    · exact absurd h2 h1
    · rfl
theorem GrwsR.chq {L : List Line9} {fz : Int32} : ∀ {n : Nat} {A B : SS}, GrwsR L fz n A B → Chg [16, 17, 18, 19] A B
  | 0, A, B, h => by rw [show B = A from h]; exact Chg.rf
  | n + 1, A, B, h => by
    obtain ⟨S1, h1, h2⟩ := h
    exact (GrwsR.chq h1).tr h2.1
theorem FulR.chq {L : List Line9} {fz u r : Int32} : ∀ {f k : Nat} {A B : SS}, FulR L fz u f k A r B → Chg [16, 17, 18, 19] A B
  | 0, k, A, B, h => by rw [show B = A from h.2]; exact Chg.rf
  | f + 1, k, A, B, h => by
    rcases h with ⟨-, -, h⟩ | ⟨-, S1, h1, h2⟩
    · rw [show B = A from h]; exact Chg.rf
    · exact h1.1.tr (FulR.chq h2)
theorem RelX.thk (r : RelX W M) : RelX W (thkF M) := r.chg (os := [18]) ((Chg.rf (S := M)).set rfl) rfl
theorem j_size (r : RelX W M) (hx : ((iscM (tl M) c = true ∧ isInB w 0 60 = true) ∧ SameX W W' ∧ ∀ S1, GrwsR (W.Ls 0) (tl M 0 16) (gN w) (thkF (tl M)) S1 → v = S1 18 (gN c)) ∨ (¬ (iscM (tl M) c = true ∧ isInB w 0 60 = true) ∧ v = -1 ∧ W' = W)) (hk : ((iscM M c = true ∧ isInB w 0 60 = true) ∧ ∃ S1, GrwsR (W.Ls 0) (M 0 16) (gN w) (thkF (tl M)) S1 ∧ v2 = S1 18 (gN c) ∧ M' = S1) ∨ (¬ (iscM M c = true ∧ isInB w 0 60 = true) ∧ v2 = -1 ∧ M' = tl M)) : v = v2 ∧ RelX W' M' := by
  rcases hx with ⟨h1, hS, hx⟩ | ⟨h1, rfl, rfl⟩
  · rcases hk with ⟨h2, S1, hG, rfl, rfl⟩ | ⟨h2, rfl, rfl⟩
    · exact ⟨hx _ hG, (r.tl.thk.same hS).chg (GrwsR.chq hG) rfl⟩
    · exact absurd h1 h2
  · rcases hk with ⟨h2, -⟩ | ⟨h2, rfl, rfl⟩
    · exact absurd h2 h1
    · exact ⟨rfl, r.tl⟩
theorem j_full (r : RelX W M) (hx : (u < 0 ∧ v = -1 ∧ W' = W) ∨ (¬ u < 0 ∧ SameX W W' ∧ ∀ r S', FulR (W.Ls 0) (tl M 0 16) u 61 0 (thkF (tl M)) r S' → v = r)) (hk : (u < 0 ∧ v2 = -1 ∧ M' = tl M) ∨ (¬ u < 0 ∧ FulR (W.Ls 0) (M 0 16) u 61 0 (thkF (tl M)) v2 M')) : v = v2 ∧ RelX W' M' := by
  rcases hx with ⟨h1, rfl, rfl⟩ | ⟨h1, hS, hx⟩
  · rcases hk with ⟨h2, rfl, rfl⟩ | ⟨h2, -⟩
    · exact ⟨rfl, r.tl⟩
    · exact absurd h1 h2
  · rcases hk with ⟨h2, -⟩ | ⟨h2, hF⟩
    · exact absurd h2 h1
    · exact ⟨hx _ _ hF, (r.tl.thk.same hS).chg (FulR.chq hF) rfl⟩
theorem EndsR.o {L : List Line9} {m : Nat} : ∀ {n : Nat} {A B : SS} {v : Int32}, EndsR L m n A v B → (∀ o, o ≠ 0 → o ≠ 1 → o ≠ 3 → mem1 [16, 17, 18, 19] o = false → B o = A o) ∧ ∀ k, k ≠ 4 → k ≠ 16 → k ≠ 17 → B 0 k = A 0 k
  | 0, A, B, v, h => by rw [show B = A from h.2]; exact ⟨fun _ _ _ _ _ => rfl, fun _ _ _ _ => rfl⟩
  | n + 1, A, B, v, h => by
    obtain ⟨v1, S1, v2, h1, h2, -⟩ := h
    obtain ⟨a1, a2⟩ := EndsR.o h1
    exact ⟨fun o q0 q1 q3 hm => (h2.o q0 q1 q3 hm).trans (a1 o q0 q1 q3 hm), fun k k4 k16 k17 => (h2.f k4 k16 k17).trans (a2 k k4 k16 k17)⟩
theorem j_days (r : RelX W M) (hx : ((isInB w 1 100 = true ∧ tl M 0 17 + w ≤ 9999) ∧ ∃ A, (∀ v1 S1, EndsR (W.Ls 0) (gN (W.S 0 0 16)) (gN w) (tl M) v1 S1 → RW A (W.Ls 0) S1 ∧ v = v1) ∧ W' = (W.uS 0 A).uF 8 0) ∨ (¬ (isInB w 1 100 = true ∧ tl M 0 17 + w ≤ 9999) ∧ v = -1 ∧ W' = W)) (hk : ((isInB w 1 100 = true ∧ M 0 17 + w ≤ 9999) ∧ ∃ S1, EndsR (W.Ls 0) (gN (W.S 0 0 16)) (gN w) (tl M) v2 S1 ∧ M' = up2 S1 0 3 0) ∨ (¬ (isInB w 1 100 = true ∧ M 0 17 + w ≤ 9999) ∧ v2 = -1 ∧ M' = tl M)) : v = v2 ∧ RelX W' M' := by
  rcases hx with ⟨h1, A, hA, rfl⟩ | ⟨h1, rfl, rfl⟩
  · rcases hk with ⟨h2, S1, hE, rfl⟩ | ⟨h2, rfl, rfl⟩
    · obtain ⟨a1, a2⟩ := hA _ _ hE
      obtain ⟨o1, o2⟩ := EndsR.o hE
      refine ⟨a2, a1.up np3, RelU.z rfl rfl, ?_, ?_, ?_⟩
      · obtain ⟨t, h1, h2, h3, h4⟩ := r.t
        refine ⟨t, h1, h2, (o2 20 (by decide) (by decide) (by decide)).trans h3, fun k hk => ?_⟩
        show (W.T k &&& 255) = S1 8 k ∧ ∃ y, y < 256 ∧ S1 8 k = nI y ∧ W.T k = (W.T k).toInt8.toInt32
        rw [o1 8 (by decide) (by decide) (by decide) rfl]; exact h4 k hk
      · obtain ⟨q, h1, h2, h3⟩ := r.i
        refine ⟨q, h1, (o2 47 (by decide) (by decide) (by decide)).trans h2, fun e => ?_⟩
        show RW (W.S 1) (W.Ls 1) (vwI (S1 22))
        rw [o1 22 (by decide) (by decide) (by decide) rfl]; exact h3 e
      · obtain ⟨h1, h2, h3⟩ := r.e
        exact ⟨h1.trans (o2 38 (by decide) (by decide) (by decide)).symm, h2.trans (o2 39 (by decide) (by decide) (by decide)).symm, (o1 9 (by decide) (by decide) (by decide) rfl).trans h3⟩
    · exact absurd h1 h2
  · rcases hk with ⟨h2, -⟩ | ⟨h2, rfl, rfl⟩
    · exact absurd h2 h1
    · exact ⟨rfl, r.tl⟩
end JJ
