set_option maxRecDepth 100000
/-! CLASS AND MODEL: text, wood -/
section JT
variable {W W' : XW} {M M' : SS} {v v2 w y : Int32}
theorem j_text {R : PT} (r : RelX W M) (hx : TxP R W v W') (hk : txtQ R M v2 M') : v = v2 ∧ RelX W' M' := by
  obtain ⟨k1, k2, k3, k4⟩ := hk
  have eo : ∀ o, o ≠ 0 → o < 10 ∨ 15 < o → M' o = M o := k1
  have e0 : ∀ j, fx j = false → M' 0 j = M 0 j := k2
  cases R with
  | inl e =>
    obtain ⟨rfl, rfl⟩ := hx
    obtain ⟨g1, g2, g3, g4, g5, g6⟩ := k4
    refine ⟨g1.symm, ?_, ?_, ?_, ?_, ?_⟩
    · refine RW.congr (show RW (W.S 0) (W.Ls 0) M from r.w) (fun o k hv => ?_)
      rcases hv with ⟨rfl, hv⟩ | ⟨rfl, hv⟩ | ⟨rfl, hv⟩ | ⟨hv, hk⟩ | ⟨rfl, hv⟩ | ⟨hv, hk⟩ | ⟨hv, hk⟩
      · rcases hv with rfl | rfl | rfl | rfl | rfl | rfl | rfl | rfl | rfl | rfl | rfl
        · exact e0 _ rfl
        · exact e0 _ rfl
        · exact e0 _ rfl
        · exact e0 _ rfl
        · exact e0 _ rfl
        · exact e0 _ rfl
        · exact e0 _ rfl
        · exact e0 _ rfl
        · exact e0 _ rfl
        · exact e0 _ rfl
        · exact g4
      · rw [eo 1 (by decide) (by decide)]
      · rw [eo 3 (by decide) (by decide)]
      · rw [eo o (by omega) (by omega)]
      · rw [eo 7 (by decide) (by decide)]
      · have := g6 k hk
        rcases hv with rfl | rfl | rfl
        · exact this.1
        · exact this.2.1
        · exact this.2.2
      · have := g5 k hk
        rcases hv with rfl | rfl
        · exact this.1
        · exact this.2
    · exact r.u.keep rfl (e0 3 rfl) (eo 2 (by decide) (by decide)) rfl (fun _ _ => rfl) rfl rfl (fun _ => rfl) (Nat.le_refl _)
    · exact ⟨0, by omega, rfl, k3, fun k hk => absurd hk (by omega)⟩
    · obtain ⟨q, h1, h2, h3⟩ := r.i
      exact ⟨q, h1, (e0 47 rfl).trans h2, fun e => by rw [eo 22 (by decide) (by decide)]; exact h3 e⟩
    · exact ⟨g2.symm, g3.symm, by rw [eo 9 (by decide) (by decide)]; exact r.e.2.2⟩
  | inr ls =>
    obtain ⟨h16, rfl, la, rfl⟩ := hx
    obtain ⟨g1, g2, g3, g4⟩ := k4
    have rb := r.w.2.2.2.1
    have e1 : M' 1 = M 1 := eo 1 (by decide) (by decide)
    have e3 : M' 3 = M 3 := eo 3 (by decide) (by decide)
    have e4 : M' 4 = M 4 := eo 4 (by decide) (by decide)
    have e5 : M' 5 = M 5 := eo 5 (by decide) (by decide)
    have e6 : M' 6 = M 6 := eo 6 (by decide) (by decide)
    have e7 : M' 7 = M 7 := eo 7 (by decide) (by decide)
    refine ⟨g1.symm, ?_, ?_, ?_, ?_, ?_⟩
    · show RW (W.S 0) ls M'
      refine ⟨r.w.1, r.w.2.1, by rw [e1]; exact r.w.2.2.1, ?_, g4⟩
      refine RB.of ((e0 5 rfl).trans (rb 0)) ((e0 6 rfl).trans (rb 1)) ((e0 17 rfl).trans (rb 2)) ((e0 8 rfl).trans (rb 3)) ((e0 12 rfl).trans (rb 4)) ((e0 4 rfl).trans (rb 5)) ((e0 16 rfl).trans (rb 6)) ((e0 13 rfl).trans (rb 7)) ((e0 14 rfl).trans (rb 8)) ((e0 15 rfl).trans (rb 9)) ?_ ?_ ?_
      · intro c hc h9; rw [e3]; exact rb 10 c hc h9
      · intro k hk; rw [e4, e5, e6]; exact rb 11 k hk
      · intro i j hi hj; rw [e7]; exact rb 12 i j hi hj
    · exact r.u.keep rfl (e0 3 rfl) (eo 2 (by decide) (by decide)) rfl (fun j hj => upN_n (by omega)) rfl rfl (fun _ => rfl) (Nat.le_refl _)
    · exact ⟨0, by omega, rfl, k3, fun k hk => absurd hk (by omega)⟩
    · obtain ⟨q, h1, h2, h3⟩ := r.i
      exact ⟨q, h1, (e0 47 rfl).trans h2, fun e => by rw [eo 22 (by decide) (by decide)]; exact h3 e⟩
    · exact ⟨g2.symm, g3.symm, by rw [eo 9 (by decide) (by decide)]; exact r.e.2.2⟩
theorem in38 {x : Int32} (h : isInB x 3 8 = true) : Bd 8 x ∧ 3 ≤ gN x := by
  obtain ⟨k, h1, h2, rfl⟩ := isInB_nI (a := 3) (b := 8) (by decide) h (by decide)
  rw [gN_nI (by omega)]
  exact ⟨bd_nI h2 (by decide), h1⟩
theorem bd0 {n : Nat} (h : n < 2 ^ 31 := by decide) : Bd n (0 : Int32) := bd_nI (n := 0) (Nat.zero_le _) h
section BG
variable {S : Nat → Nat → Int32} {M : SS}
theorem wo_1 {k : Nat} (hk : k < 348) : woF M w y 1 k = 0 := by
  show cpy 348 (M 1) (fun _ => 0) k = 0
  unfold cpy; rw [if_pos hk]
theorem wo_3 {k : Nat} (hk : k < 64) : woF M w y 3 k = 0 := by
  show cpy 64 (M 3) (fun _ => 0) k = 0
  unfold cpy; rw [if_pos hk]
theorem be_1 {k : Nat} (hk : k < 64) : begF S w y 1 k = 10 := by
  show cpy 64 (S 1) (fun _ => 10) k = 10
  unfold cpy; rw [if_pos hk]
theorem be_2 {k : Nat} (hk : k < 64) : begF S w y 2 k = -1 := by
  show cpy 64 (S 2) (fun _ => -1) k = -1
  unfold cpy; rw [if_pos hk]
theorem be_12 : begF S w y 0 12 = w := rfl
theorem be_13 : begF S w y 0 13 = y := rfl
theorem be_14 : begF S w y 0 14 = 0 := rfl
theorem be_15 : begF S w y 0 15 = 0 := rfl
theorem be_16 : begF S w y 0 16 = 0 := rfl
theorem be_17 : begF S w y 0 17 = 0 := rfl
theorem be_18 : begF S w y 0 18 = S 0 18 := rfl
theorem be_19 : begF S w y 0 19 = 0 := rfl
theorem be_20 : begF S w y 0 20 = 0 := rfl
theorem be_21 : begF S w y 0 21 = 0 := rfl
theorem be_22 : begF S w y 0 22 = 0 := rfl
theorem be_23 : begF S w y 0 23 = 0 := rfl
theorem gN_0 : gN 0 = 0 := by decide
theorem wo_f : woF M w y 0 5 = w ∧ woF M w y 0 6 = y ∧ woF M w y 0 17 = 0 ∧ woF M w y 0 8 = 0 ∧ woF M w y 0 12 = 0 ∧ woF M w y 0 4 = M 0 4 ∧ woF M w y 0 16 = 0 ∧ woF M w y 0 13 = 0 ∧ woF M w y 0 14 = 0 ∧ woF M w y 0 15 = 0 ∧ woF M w y 0 26 = 0 := ⟨rfl, rfl, rfl, rfl, rfl, rfl, rfl, rfl, rfl, rfl, rfl⟩
theorem XB.begin (hw : isInB w 3 8 = true) (hy : isInB y 3 8 = true) : XB (begF S w y) := by
  generalize hB : begF S w y = B
  have h12 : B 0 12 = w := by rw [← hB]; exact be_12
  have h13 : B 0 13 = y := by rw [← hB]; exact be_13
  have h14 : B 0 14 = 0 := by rw [← hB]; exact be_14
  have h15 : B 0 15 = 0 := by rw [← hB]; exact be_15
  have h16 : B 0 16 = 0 := by rw [← hB]; exact be_16
  have h19 : B 0 19 = 0 := by rw [← hB]; exact be_19
  have h21 : B 0 21 = 0 := by rw [← hB]; exact be_21
  have h22 : B 0 22 = 0 := by rw [← hB]; exact be_22
  have h23 : B 0 23 = 0 := by rw [← hB]; exact be_23
  have h1 : ∀ k, k < 64 → B 1 k = 10 := fun k hk => by rw [← hB]; exact be_1 hk
  refine XB.of (show Bd 8 (B 0 12) ∧ 3 ≤ gN (B 0 12) from by rw [h12]; exact in38 hw) (show Bd 8 (B 0 13) ∧ 3 ≤ gN (B 0 13) from by rw [h13]; exact in38 hy) (show Bd 9999 (B 0 14) from by rw [h14]; exact bd0) (show Bd 12 (B 0 15) from by rw [h15]; exact bd0) (show Bd 6 (B 0 16) from by rw [h16]; exact bd0) (show Bd 1 (B 0 19) from by rw [h19]; exact bd0) (show Bd 1000 (B 0 21) from by rw [h21]; exact bd0) (show Bd 1000 (B 0 22) from by rw [h22]; exact bd0) (show Bd 1000 (B 0 23) from by rw [h23]; exact bd0) (show ∀ c, c < 64 → Bd 99 (B 1 c) from fun c hc => by rw [h1 c hc]; exact bd_nI (n := 10) (by decide) (by decide)) (show ∀ k, k < gN (B 0 15) → Bd 99 (B 7 k) ∧ Bd 9 (B 8 k) ∧ (B 9 k = -1 ∨ (Bd 11 (B 9 k) ∧ gN (B 9 k) < gN (B 0 15))) from fun k hk => by
    rw [h15, gN_0] at hk; exact absurd hk (by omega))
theorem XN.begin : XN (begF S w y) (begF S w y) := by
  generalize hB : begF S w y = B
  have h17 : B 0 17 = 0 := by rw [← hB]; exact be_17
  have h20 : B 0 20 = 0 := by rw [← hB]; exact be_20
  have h16 : B 0 16 = 0 := by rw [← hB]; exact be_16
  have h2 : ∀ k, k < 64 → B 2 k = -1 := fun k hk => by rw [← hB]; exact be_2 hk
  refine XN.of (show Bd 100 (B 0 17) from by rw [h17]; exact bd0) (show Bd 99 (B 0 20) from by rw [h20]; exact bd0) (show ∀ c, c < 64 → B 2 c = -1 ∨ (Bd 11 (B 2 c) ∧ gN (B 2 c) < gN (B 0 15) ∧ isCellB B (nI c) = true) from fun c hc => Or.inl (h2 c hc)) (show ∀ c, c < 64 → B 2 c ≠ -1 → Bd 999 (B 3 c) from fun c hc h9 => absurd (h2 c hc) h9) (show ∀ p, p < gN (B 0 16) → Bd 63 (B (113 + 2 * p) 1) ∧ isCellB B (B (113 + 2 * p) 1) = true from fun p hp => ?_) (show ∀ p, p < gN (B 0 16) → Bd 99 (B (113 + 2 * p) 2) from fun p hp => ?_)
  · rw [h16, gN_0] at hp; exact absurd hp (by omega)
  · rw [h16, gN_0] at hp; exact absurd hp (by omega)
theorem RN.begin : RN (begF S w y) (gN (begF S w y 0 16)) (woF M w y 1) := by
  rw [be_16, gN_0]
  generalize hB : begF S w y = B
  have h17 : B 0 17 = 0 := by rw [← hB]; exact be_17
  have h20 : B 0 20 = 0 := by rw [← hB]; exact be_20
  have h2 : ∀ k, k < 64 → B 2 k = -1 := fun k hk => by rw [← hB]; exact be_2 hk
  generalize hN : woF M w y 1 = N
  have n1 : ∀ k, k < 348 → N k = 0 := fun k hk => by rw [← hN]; exact wo_1 hk
  refine RN.of (show N 347 = B 0 17 from by rw [n1 _ (by decide), h17]) (show N 346 = B 0 20 from by rw [n1 _ (by decide), h20]) (show ∀ c, c < 64 → N c = B 2 c + 1 from fun c hc => by rw [n1 c (by omega), h2 c hc]; decide) (show ∀ c, c < 64 → B 2 c ≠ -1 → N (64 + c) = B 3 c from fun c hc h9 => absurd (h2 c hc) h9) (show ∀ c, c < 64 → B 2 c ≠ -1 → N (128 + c) = B 4 c from fun c hc h9 => absurd (h2 c hc) h9) (show ∀ c, c < 64 → B 2 c ≠ -1 → N (192 + c) = B 5 c from fun c hc h9 => absurd (h2 c hc) h9) (show ∀ p, p < 0 → N (256 + p) = B (113 + 2 * p) 1 from fun p hp => absurd hp (by omega)) (show ∀ p, p < 0 → N (262 + p) = B (113 + 2 * p) 2 from fun p hp => absurd hp (by omega)) (show ∀ p, p < 0 → N (268 + p) = B (113 + 2 * p) 3 from fun p hp => absurd hp (by omega)) (show ∀ p w, p < 0 → w < 12 → N (274 + 12 * p + w) = B (113 + 2 * p + 1) w from fun p w hp => absurd hp (by omega)) (show ∀ p, 0 ≤ p → p < 6 → N (262 + p) = 0 ∧ N (268 + p) = 0 ∧ ∀ w, w < 12 → N (274 + 12 * p + w) = 0 from fun p _ hp => ⟨n1 _ (by omega), n1 _ (by omega), fun w hw => n1 _ (by omega)⟩)
theorem RB.begin (h4 : M 0 4 = S 0 18) : RB (begF S w y) (woF M w y) := by
  have h15 : gN (begF S w y 0 15) = 0 := by rw [be_15, gN_0]
  have h17 : gN (begF S w y 0 17) = 0 := by rw [be_17, gN_0]
  have b1 : ∀ k, k < 64 → begF S w y 1 k = 10 := fun k hk => be_1 hk
  have n3 : ∀ k, k < 64 → woF M w y 3 k = 0 := fun k hk => wo_3 hk
  obtain ⟨m5, m6, m17, m8, m12, m4, m16, m13, m14, m15, m26⟩ := wo_f (M := M) (w := w) (y := y)
  have b12 := be_12 (S := S) (w := w) (y := y)
  have b13 := be_13 (S := S) (w := w) (y := y)
  have b14 := be_14 (S := S) (w := w) (y := y)
  have b15 := be_15 (S := S) (w := w) (y := y)
  have b16 := be_16 (S := S) (w := w) (y := y)
  have b18 := be_18 (S := S) (w := w) (y := y)
  have b19 := be_19 (S := S) (w := w) (y := y)
  have b21 := be_21 (S := S) (w := w) (y := y)
  have b22 := be_22 (S := S) (w := w) (y := y)
  have b23 := be_23 (S := S) (w := w) (y := y)
  generalize begF S w y = B at *
  generalize woF M w y = N at *
  refine RB.of (show N 0 5 = B 0 12 from by rw [m5, b12]) (show N 0 6 = B 0 13 from by rw [m6, b13]) (show N 0 17 = B 0 14 from by rw [m17, b14]) (show N 0 8 = B 0 15 from by rw [m8, b15]) (show N 0 12 = B 0 16 from by rw [m12, b16]) (show N 0 4 = B 0 18 from by rw [m4, b18, h4]) (show N 0 16 = B 0 19 from by rw [m16, b19]) (show N 0 13 = B 0 21 from by rw [m13, b21]) (show N 0 14 = B 0 22 from by rw [m14, b22]) (show N 0 15 = B 0 23 from by rw [m15, b23]) (show ∀ c, c < 64 → isCellB B (nI c) = true → N 3 c = B 1 c - 10 from fun c hc _ => by rw [n3 c hc, b1 c hc]; decide) (show ∀ k, k < gN (B 0 15) → N 4 k = B 7 k ∧ N 5 k = B 8 k ∧ N 6 k = B 9 k from fun k hk => by rw [h15] at hk; exact absurd hk (by omega)) (show ∀ i j, i < gN (B 0 17) → j < 4 → N 7 (4 * i + j) = B (11 + i) j from fun i j hi => by rw [h17] at hi; exact absurd hi (by omega))
theorem RW.begin {L : List Line9} (r : RW S L M) (hw : isInB w 3 8 = true) (hy : isInB y 3 8 = true) : RW (begF S w y) [] (woF M w y) :=
  ⟨XB.begin hw hy, XN.begin, RN.begin, RB.begin (r.2.2.2.1 5), (wo_f (M := M) (w := w) (y := y)).2.2.2.2.2.2.2.2.2.2, by decide, fun i q hq => by simp at hq⟩
end BG
theorem j_wood (r : RelX W M) (hx : ((isInB w 3 8 = true ∧ isInB y 3 8 = true) ∧ v = 1 ∧ ∃ la, W' = ((W.uS 0 (begF (W.S 0) w y)).uL 0 la []).uF 8 0) ∨ (¬ (isInB w 3 8 = true ∧ isInB y 3 8 = true) ∧ v = 0 ∧ W' = W)) (hk : ((isInB w 3 8 = true ∧ isInB y 3 8 = true) ∧ v2 = 1 ∧ M' = woF M w y) ∨ (¬ (isInB w 3 8 = true ∧ isInB y 3 8 = true) ∧ v2 = 0 ∧ M' = tl M)) : v = v2 ∧ RelX W' M' := by
  rcases hx with ⟨h5, rfl, la, rfl⟩ | ⟨h5, rfl, rfl⟩
  · rcases hk with ⟨h6, rfl, rfl⟩ | ⟨h6, rfl, rfl⟩
    · refine ⟨rfl, ?_, RelU.z rfl rfl, ?_, ?_, ?_⟩
      · exact r.w.begin h5.1 h5.2
      · obtain ⟨t, h1, h2, h3, h4⟩ := r.t
        exact ⟨t, h1, h2, h3, h4⟩
      · obtain ⟨q, h1, h2, h3⟩ := r.i
        exact ⟨q, h1, h2, h3⟩
      · exact ⟨r.e.1, r.e.2.1, r.e.2.2⟩
    · exact absurd h5 h6
  · rcases hk with ⟨h6, rfl, rfl⟩ | ⟨h6, rfl, rfl⟩
    · exact absurd h6 h5
    · exact ⟨rfl, r.tl⟩
end JT
theorem x_wood {l : Launch} {G : GG} {d : Nat} (hd : 6 ≤ d) {x z : Nat} {W : XW} {h : AH} {w y : Int32} (hx : IsX G x W h) (hz : x + 1982 ≤ z) {P : Option Value → AH → Nat → Prop} (hs : ∀ v W' h' z', (((isInB w 3 8 = true ∧ isInB y 3 8 = true) ∧ v = 1 ∧ ∃ la, W' = ((W.uS 0 (begF (W.S 0) w y)).uL 0 la []).uF 8 0) ∨ (¬ (isInB w 3 8 = true ∧ isInB y 3 8 = true) ∧ v = 0 ∧ W' = W)) → IsX G x W' h' → (∀ a, a < z → ¬ InX x a → h' a = h a) → P (some (.int v)) h' z') : Ct l G mX0_wood d 1 3 [.ref x, .int w, .int y] h z P := by
  refine Ct.of rfl (Nat.le_of_ble_eq_true rfl) rfl ?_
  refine X.bnd fun hb => ?_
  refine X.walk wkX0_wood (fcons (ceS c_isIn mo3 ckX0_50 (by omega) rfl) fnil) (RetOk.m (Nat.zero_le _) (Nat.zero_le _)) ⟨Nat.zero_le _, Nat.zero_le _⟩ [22] 13 rfl ?_
  refine And.intro (fun b7 => ?_) (fun b7 => ?_)
  · simp only [cP, cN, bI_0, Bool.not_eq_false, lt_nle, Decidable.not_not] at b7
    exact And.intro (Or.inl rfl) (hs _ _ _ _ (Or.inr ⟨fun q => absurd (b7.symm.trans q.1) (by decide), rfl, rfl⟩) hx (fun _ _ _ => rfl))
  simp only [cP, cN, bI_0, Bool.not_eq_false, lt_nle, Decidable.not_not] at b7
  refine And.intro (fun b17 => ?_) (fun b17 => ?_)
  rotate_left 1
  · simp only [cP, cN, bI_0, Bool.not_eq_false, lt_nle, Decidable.not_not] at b17
    exact And.intro (Or.inl rfl) (hs _ _ _ _ (Or.inr ⟨fun q => absurd (b17.symm.trans q.2) (by decide), rfl, rfl⟩) hx (fun _ _ _ => rfl))
  simp only [cP, cN, bI_0, Bool.not_eq_false, lt_nle, Decidable.not_not] at b17
  refine X.walk wkX0_wood fnil RetOk.no ⟨Nat.zero_le _, Nat.zero_le _⟩ [28] 4 rfl ?_
  refine gF hx.obj ?_
  have hwz : wb x 0 + 125 ≤ z := by have := wb_in (x := x) (j := 0) (by decide); omega
  refine X.callV (As := [.int w, .int y]) (rest := []) ckX0_106 pkX0_wood rfl (c_begins (d := d - 1) (by omega) hx.w0 hwz (P := fun v h' z' => v = none ∧ z' = z + 1 ∧ IsWood G (wb x 0) (begF (W.S 0) w y) z h' ∧ h' z = some (.inr (11, lsF 0 (G.2.2.2 0) 0)) ∧ FrZ (wb x 0) z h h') (fun h' q1 q2 q3 => ⟨rfl, rfl, q1, q2, q3⟩)) hx.w0.obj rfl rfl rfl (Fit.K (by omega) (by decide) (by omega) (by omega)) (Nat.le_of_ble_eq_true rfl) ?_
  intro v h2 z2 hq
  obtain ⟨rfl, rfl, q1, q2, q3⟩ := hq
  have hx1 : IsX G x W (ahU h z (.inr (11, lsF 0 (G.2.2.2 0) 0))) := hx.grow (by omega) hb (fun a ha => ahU_n (by omega))
  have hf1 : Fr (wb x 0) (ahU h z (.inr (11, lsF 0 (G.2.2.2 0) 0))) h2 := by
    intro a ha
    by_cases e : a = z
    · rw [e, ahU_s]; exact q2
    · rw [ahU_n e]; exact q3 a ha e
  have hl : IsLaw G (cut x (ahU h z (.inr (11, lsF 0 (G.2.2.2 0) 0)))) z [] := by
    refine ⟨0, G.2.2.2 0, ?_, by decide, Or.inl rfl⟩
    unfold cut
    rw [lawZ_hi hz]; exact ahU_s
  have hx2 := hx1.woodL (by decide) q1 hf1 hl
  have hf2 : FrX x (ahU h z (.inr (11, lsF 0 (G.2.2.2 0) 0))) h2 := FrX.rf.w (by decide) hf1
  refine X.walk wkX0_wood (fcons (ceV x_forgets xmW0 ckX0_110 rfl xrW0 (by omega) rfl) fnil) (RetOk.m (by omega) (by omega)) ⟨by show 0 + 1 ≤ 1; omega, by show 0 + 3 ≤ 3; omega⟩ [] 3 rfl ?_
  refine Exists.intro _ (Exists.intro () (And.intro hx2 (And.intro trivial ?_)))
  intro v34 W34 h34 p34 hx3 hf3
  (try dsimp only at p34)
  obtain ⟨rfl, rfl⟩ := p34
  refine And.intro (Or.inr rfl) (hs _ _ _ _ (Or.inl ⟨⟨b7, b17⟩, rfl, z, rfl⟩) hx3 (fun a ha hn => ?_))
  rw [hf3 a hn, hf2 a hn, ahU_n (by omega)]
