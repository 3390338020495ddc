set_option maxRecDepth 100000
section ST
variable {S M : SS} {L : List Line9}
/-- one number of a person changes, and its place in the model's row -/
theorem RW.pers (r : RW S L M) {o i j : Nat} {x : Int32} (ho : 113 ≤ o) (h1 : 256 ≤ j) (h2 : j < 346) (h6 : ∀ p, p < 6 → ((113 + 2 * p = o ∧ 1 = i) ↔ 256 + p = j)) (h7 : ∀ p, p < 6 → ((113 + 2 * p = o ∧ 2 = i) ↔ 262 + p = j)) (h8 : ∀ p, p < 6 → ((113 + 2 * p = o ∧ 3 = i) ↔ 268 + p = j)) (h9 : ∀ p w, p < 6 → w < 12 → ((113 + 2 * p + 1 = o ∧ w = i) ↔ 274 + 12 * p + w = j))
    (h10 : ∀ p, gN (S 0 16) ≤ p → p < 6 → 262 + p ≠ j ∧ 268 + p ≠ j ∧ ∀ w, w < 12 → 274 + 12 * p + w ≠ j) (xc : ∀ p, p < gN (S 0 16) → 113 + 2 * p = o → 1 = i → Bd 63 x ∧ isCellB S x = true) (xs : ∀ p, p < gN (S 0 16) → 113 + 2 * p = o → 2 = i → Bd 99 x) : RW (up2 S o i x) L (up2 M 1 j x) := by
  have hm : gN (S 0 16) ≤ 6 := (r.1 4).2
  have lo : ∀ q, q < 113 → up2 S o i x q = S q := fun q hq => up2_n (by omega)
  have ec : ∀ c, isCellB (up2 S o i x) c = isCellB S c := fun c => by unfold isCellB; rw [lo 0 (by decide)]
  have nl : ∀ q, (q < 256 ∨ 346 ≤ q) → up2 M 1 j x 1 q = M 1 q := fun q hq => by rw [up2_s, pk_un (by omega)]
  refine ⟨XB.of ?_ ?_ ?_ ?_ ?_ ?_ ?_ ?_ ?_ ?_ ?_, XN.of ?_ ?_ ?_ ?_ ?_ ?_, RN.of ?_ ?_ ?_ ?_ ?_ ?_ ?_ ?_ ?_ ?_ ?_, RB.of ?_ ?_ ?_ ?_ ?_ ?_ ?_ ?_ ?_ ?_ ?_ ?_ ?_, r.2.2.2.2.chg rfl rfl rfl rfl rfl rfl⟩
  · show Bd 8 (up2 S o i x 0 12) ∧ 3 ≤ gN (up2 S o i x 0 12)
    rw [lo 0 (by decide)]; exact r.1 0
  · show Bd 8 (up2 S o i x 0 13) ∧ 3 ≤ gN (up2 S o i x 0 13)
    rw [lo 0 (by decide)]; exact r.1 1
  · show Bd 9999 (up2 S o i x 0 14)
    rw [lo 0 (by decide)]; exact r.1 2
  · show Bd 12 (up2 S o i x 0 15)
    rw [lo 0 (by decide)]; exact r.1 3
  · show Bd 6 (up2 S o i x 0 16)
    rw [lo 0 (by decide)]; exact r.1 4
  · show Bd 1 (up2 S o i x 0 19)
    rw [lo 0 (by decide)]; exact r.1 5
  · show Bd 1000 (up2 S o i x 0 21)
    rw [lo 0 (by decide)]; exact r.1 6
  · show Bd 1000 (up2 S o i x 0 22)
    rw [lo 0 (by decide)]; exact r.1 7
  · show Bd 1000 (up2 S o i x 0 23)
    rw [lo 0 (by decide)]; exact r.1 8
  · intro c hc
    rw [lo 1 (by decide)]; exact r.1 9 c hc
  · intro k hk
    rw [lo 0 (by decide)] at hk
    rw [lo 0 (by decide), lo 7 (by decide), lo 8 (by decide), lo 9 (by decide)]; exact r.1 10 k hk
  · show Bd 100 (up2 S o i x 0 17)
    rw [lo 0 (by decide)]; exact r.2.1 0
  · show Bd 99 (up2 S o i x 0 20)
    rw [lo 0 (by decide)]; exact r.2.1 1
  · intro c hc
    rw [lo 2 (by decide), lo 0 (by decide), ec]; exact r.2.1 2 c hc
  · intro c hc
    rw [lo 2 (by decide), lo 3 (by decide)]; exact r.2.1 3 c hc
  · intro p hp
    rw [lo 0 (by decide)] at hp
    rw [ec, up2_ap]
    by_cases q : 113 + 2 * p = o ∧ 1 = i
    · rw [if_pos q]; exact xc p hp q.1 q.2
    · rw [if_neg q]; exact r.2.1 4 p hp
  · intro p hp
    rw [lo 0 (by decide)] at hp
    rw [up2_ap]
    by_cases q : 113 + 2 * p = o ∧ 2 = i
    · rw [if_pos q]; exact xs p hp q.1 q.2
    · rw [if_neg q]; exact r.2.1 5 p hp
  · show up2 M 1 j x 1 347 = up2 S o i x 0 17
    rw [lo 0 (by decide), nl _ (by omega)]; exact r.2.2.1 0
  · show up2 M 1 j x 1 346 = up2 S o i x 0 20
    rw [lo 0 (by decide), nl _ (by omega)]; exact r.2.2.1 1
  · intro c hc
    rw [lo 2 (by decide), nl _ (by omega)]; exact r.2.2.1 2 c hc
  · intro c hc h
    rw [lo 2 (by decide)] at h
    rw [lo 3 (by decide), nl _ (by omega)]; exact r.2.2.1 3 c hc h
  · intro c hc h
    rw [lo 2 (by decide)] at h
    rw [lo 4 (by decide), nl _ (by omega)]; exact r.2.2.1 4 c hc h
  · intro c hc h
    rw [lo 2 (by decide)] at h
    rw [lo 5 (by decide), nl _ (by omega)]; exact r.2.2.1 5 c hc h
  · intro p hp
    rw [lo 0 (by decide)] at hp
    rw [up2_ap, up2_ap]
    by_cases q : 113 + 2 * p = o ∧ 1 = i
    · rw [if_pos ⟨rfl, (h6 p (by omega)).mp q⟩, if_pos q]
    · rw [if_neg (fun z => q ((h6 p (by omega)).mpr z.2)), if_neg q]; exact r.2.2.1 6 p hp
  · intro p hp
    rw [lo 0 (by decide)] at hp
    rw [up2_ap, up2_ap]
    by_cases q : 113 + 2 * p = o ∧ 2 = i
    · rw [if_pos ⟨rfl, (h7 p (by omega)).mp q⟩, if_pos q]
    · rw [if_neg (fun z => q ((h7 p (by omega)).mpr z.2)), if_neg q]; exact r.2.2.1 7 p hp
  · intro p hp
    rw [lo 0 (by decide)] at hp
    rw [up2_ap, up2_ap]
    by_cases q : 113 + 2 * p = o ∧ 3 = i
    · rw [if_pos ⟨rfl, (h8 p (by omega)).mp q⟩, if_pos q]
    · rw [if_neg (fun z => q ((h8 p (by omega)).mpr z.2)), if_neg q]; exact r.2.2.1 8 p hp
  · intro p w hp hw
    rw [lo 0 (by decide)] at hp
    rw [up2_ap, up2_ap]
    by_cases q : 113 + 2 * p + 1 = o ∧ w = i
    · rw [if_pos ⟨rfl, (h9 p w (by omega) hw).mp q⟩, if_pos q]
    · rw [if_neg (fun z => q ((h9 p w (by omega) hw).mpr z.2)), if_neg q]; exact r.2.2.1 9 p w hp hw
  · intro p q1 q2
    rw [lo 0 (by decide)] at q1
    obtain ⟨a1, a2, a3⟩ := r.2.2.1 10 p q1 q2
    obtain ⟨b1, b2, b3⟩ := h10 p q1 q2
    refine ⟨?_, ?_, fun w hw => ?_⟩
    · rw [up2_s, pk_un b1]; exact a1
    · rw [up2_s, pk_un b2]; exact a2
    · rw [up2_s, pk_un (b3 w hw)]; exact a3 w hw
  · show M 0 5 = up2 S o i x 0 12
    rw [lo 0 (by decide)]; exact r.2.2.2.1 0
  · show M 0 6 = up2 S o i x 0 13
    rw [lo 0 (by decide)]; exact r.2.2.2.1 1
  · show M 0 17 = up2 S o i x 0 14
    rw [lo 0 (by decide)]; exact r.2.2.2.1 2
  · show M 0 8 = up2 S o i x 0 15
    rw [lo 0 (by decide)]; exact r.2.2.2.1 3
  · show M 0 12 = up2 S o i x 0 16
    rw [lo 0 (by decide)]; exact r.2.2.2.1 4
  · show M 0 4 = up2 S o i x 0 18
    rw [lo 0 (by decide)]; exact r.2.2.2.1 5
  · show M 0 16 = up2 S o i x 0 19
    rw [lo 0 (by decide)]; exact r.2.2.2.1 6
  · show M 0 13 = up2 S o i x 0 21
    rw [lo 0 (by decide)]; exact r.2.2.2.1 7
  · show M 0 14 = up2 S o i x 0 22
    rw [lo 0 (by decide)]; exact r.2.2.2.1 8
  · show M 0 15 = up2 S o i x 0 23
    rw [lo 0 (by decide)]; exact r.2.2.2.1 9
  · intro c hc h
    rw [ec] at h
    show M 3 c = _
    rw [lo 1 (by decide)]; exact r.2.2.2.1 10 c hc h
  · intro k hk
    rw [lo 0 (by decide)] at hk
    show M 4 k = _ ∧ M 5 k = _ ∧ M 6 k = _
    rw [lo 7 (by decide), lo 8 (by decide), lo 9 (by decide)]; exact r.2.2.2.1 11 k hk
  · intro q w hq hw
    rw [lo 0 (by decide)] at hq
    have := (r.2.1 0).2
    show M 7 (4 * q + w) = _
    rw [lo (11 + q) (by omega)]; exact r.2.2.2.1 12 q w hq hw
theorem RW.pc (r : RW S L M) {k : Nat} {x : Int32} (hk : k < gN (S 0 16)) (hx : Bd 63 x ∧ isCellB S x = true) : RW (up2 S (113 + 2 * k) 1 x) L (up2 M 1 (256 + k) x) := by
  have hm : gN (S 0 16) ≤ 6 := (r.1 4).2
  exact r.pers (by omega) (by omega) (by omega) (fun p hp => by omega) (fun p hp => by omega) (fun p hp => by omega) (fun p w hp hw => by omega) (fun p h1 h2 => ⟨by omega, by omega, fun w hw => by omega⟩) (fun _ _ _ _ => hx) (fun _ _ _ h => by omega)
theorem RW.ps (r : RW S L M) {k : Nat} {x : Int32} (hk : k < gN (S 0 16)) (hx : Bd 99 x) : RW (up2 S (113 + 2 * k) 2 x) L (up2 M 1 (262 + k) x) := by
  have hm : gN (S 0 16) ≤ 6 := (r.1 4).2
  exact r.pers (by omega) (by omega) (by omega) (fun p hp => by omega) (fun p hp => by omega) (fun p hp => by omega) (fun p w hp hw => by omega) (fun p h1 h2 => ⟨by omega, by omega, fun w hw => by omega⟩) (fun _ _ _ h => by omega) (fun _ _ _ _ => hx)
theorem RW.pz (r : RW S L M) {k : Nat} {x : Int32} (hk : k < gN (S 0 16)) : RW (up2 S (113 + 2 * k) 3 x) L (up2 M 1 (268 + k) x) := by
  have hm : gN (S 0 16) ≤ 6 := (r.1 4).2
  exact r.pers (by omega) (by omega) (by omega) (fun p hp => by omega) (fun p hp => by omega) (fun p hp => by omega) (fun p w hp hw => by omega) (fun p h1 h2 => ⟨by omega, by omega, fun w hw => by omega⟩) (fun _ _ _ h => by omega) (fun _ _ _ h => by omega)
theorem RW.pb (r : RW S L M) {k v : Nat} {x : Int32} (hk : k < gN (S 0 16)) (hv : v < 12) : RW (up2 S (113 + 2 * k + 1) v x) L (up2 M 1 (274 + 12 * k + v) x) := by
  have hm : gN (S 0 16) ≤ 6 := (r.1 4).2
  exact r.pers (by omega) (by omega) (by omega) (fun p hp => by omega) (fun p hp => by omega) (fun p hp => by omega) (fun p w hp hw => by omega) (fun p h1 h2 => ⟨by omega, by omega, fun w hw => by omega⟩) (fun _ _ h _ => by omega) (fun _ _ h _ => by omega)
theorem RW.ask (r : RW S L M) {x : Int32} (hx : Bd 99 x) : RW (up2 S 0 20 x) L (up2 M 1 346 x) := by
  have hi : Hi S (up2 S 0 20 x) := fun o ho => up2_n (by omega)
  have hN : ∀ j, 256 ≤ j → j < 346 → up2 M 1 346 x 1 j = M 1 j := fun j _ _ => by rw [up2_s, pk_un (by omega)]
  refine ⟨XB.of (r.1 0) (r.1 1) (r.1 2) (r.1 3) (r.1 4) (r.1 5) (r.1 6) (r.1 7) (r.1 8) (r.1 9) (r.1 10), XN.of (r.2.1 0) ?_ (r.2.1 2) (r.2.1 3) (xn4 hi r.2.1 rfl (fun _ => rfl)) (xn5 hi r.2.1 rfl), RN.of (r.2.2.1 0) ?_ ?_ ?_ ?_ ?_ (rn6 hi r.2.2.1 (r.1 4).2 rfl hN) (rn7 hi r.2.2.1 (r.1 4).2 rfl hN) (rn8 hi r.2.2.1 (r.1 4).2 rfl hN) (rn9 hi r.2.2.1 (r.1 4).2 rfl hN) (rn10 r.2.2.1 rfl hN), RB.of (r.2.2.2.1 0) (r.2.2.2.1 1) (r.2.2.2.1 2) (r.2.2.2.1 3) (r.2.2.2.1 4) (r.2.2.2.1 5) (r.2.2.2.1 6) (r.2.2.2.1 7) (r.2.2.2.1 8) (r.2.2.2.1 9) (r.2.2.2.1 10) (r.2.2.2.1 11) (rb12 hi r.2.2.2.1 rfl rfl), r.2.2.2.2.chg rfl rfl rfl rfl rfl rfl⟩
  · exact hx
  · rfl
  · intro c hc
    show (up2 M 1 346 x) 1 (c) = _
    rw [up2_s, pk_un (by omega)]; exact r.2.2.1 2 c hc
  · intro c hc h
    show (up2 M 1 346 x) 1 (64 + c) = _
    rw [up2_s, pk_un (by omega)]; exact r.2.2.1 3 c hc h
  · intro c hc h
    show (up2 M 1 346 x) 1 (128 + c) = _
    rw [up2_s, pk_un (by omega)]; exact r.2.2.1 4 c hc h
  · intro c hc h
    show (up2 M 1 346 x) 1 (192 + c) = _
    rw [up2_s, pk_un (by omega)]; exact r.2.2.1 5 c hc h
theorem RW.cap (r : RW S L M) {c : Nat} {w y q : Int32} (hc : c < 64) (hcell : isCellB S (nI c) = true) (hw : Bd 11 w ∧ gN w < gN (S 0 15)) : RW (up2 (up2 (up2 (up2 S 2 c w) 3 c 0) 4 c y) 5 c q) L (up2 (up2 (up2 (up2 M 1 c (w + 1)) 1 (64 + c) 0) 1 (128 + c) y) 1 (192 + c) q) := by
  have hi : Hi S (up2 (up2 (up2 (up2 S 2 c w) 3 c 0) 4 c y) 5 c q) := fun o ho => by rw [up2_n (by omega), up2_n (by omega), up2_n (by omega), up2_n (by omega)]
  have ap : ∀ j, (up2 (up2 (up2 (up2 M 1 c (w + 1)) 1 (64 + c) 0) 1 (128 + c) y) 1 (192 + c) q) 1 j = if j = 192 + c then q else if j = 128 + c then y else if j = 64 + c then 0 else if j = c then w + 1 else M 1 j := fun j => by
    rw [up2_ap, up2_ap, up2_ap, up2_ap]
    simp only [true_and]
  have hN : ∀ j, 256 ≤ j → j < 346 → (up2 (up2 (up2 (up2 M 1 c (w + 1)) 1 (64 + c) 0) 1 (128 + c) y) 1 (192 + c) q) 1 j = M 1 j := fun j _ _ => by rw [ap, if_neg (by omega), if_neg (by omega), if_neg (by omega), if_neg (by omega)]
  refine ⟨XB.of (r.1 0) (r.1 1) (r.1 2) (r.1 3) (r.1 4) (r.1 5) (r.1 6) (r.1 7) (r.1 8) (r.1 9) (r.1 10), XN.of (r.2.1 0) (r.2.1 1) ?_ ?_ (xn4 hi r.2.1 rfl (fun _ => rfl)) (xn5 hi r.2.1 rfl), RN.of ?_ ?_ ?_ ?_ ?_ ?_ (rn6 hi r.2.2.1 (r.1 4).2 rfl hN) (rn7 hi r.2.2.1 (r.1 4).2 rfl hN) (rn8 hi r.2.2.1 (r.1 4).2 rfl hN) (rn9 hi r.2.2.1 (r.1 4).2 rfl hN) (rn10 r.2.2.1 rfl hN), RB.of (r.2.2.2.1 0) (r.2.2.2.1 1) (r.2.2.2.1 2) (r.2.2.2.1 3) (r.2.2.2.1 4) (r.2.2.2.1 5) (r.2.2.2.1 6) (r.2.2.2.1 7) (r.2.2.2.1 8) (r.2.2.2.1 9) (r.2.2.2.1 10) (r.2.2.2.1 11) (rb12 hi r.2.2.2.1 rfl rfl), r.2.2.2.2.chg rfl rfl rfl rfl rfl rfl⟩
  · intro d hd
    show up2 S 2 c w 2 d = -1 ∨ (Bd 11 (up2 S 2 c w 2 d) ∧ gN (up2 S 2 c w 2 d) < gN (S 0 15) ∧ isCellB S (nI d) = true)
    rw [up2_s]
    by_cases e : d = c
    · subst e; rw [pk_us]; exact Or.inr ⟨hw.1, hw.2, hcell⟩
    · rw [pk_un e]; exact r.2.1 2 d hd
  · intro d hd h
    replace h : up2 S 2 c w 2 d ≠ -1 := h
    show Bd 999 (up2 S 3 c 0 3 d)
    rw [up2_s] at h ⊢
    by_cases e : d = c
    · subst e; rw [pk_us]; exact bd_nI (n := 0) (by decide) (by decide)
    · rw [pk_un e] at h ⊢; exact r.2.1 3 d hd h
  · show (up2 (up2 (up2 (up2 M 1 c (w + 1)) 1 (64 + c) 0) 1 (128 + c) y) 1 (192 + c) q) 1 347 = _
    rw [ap, if_neg (by omega), if_neg (by omega), if_neg (by omega), if_neg (by omega)]; exact r.2.2.1 0
  · show (up2 (up2 (up2 (up2 M 1 c (w + 1)) 1 (64 + c) 0) 1 (128 + c) y) 1 (192 + c) q) 1 346 = _
    rw [ap, if_neg (by omega), if_neg (by omega), if_neg (by omega), if_neg (by omega)]; exact r.2.2.1 1
  · intro d hd
    show (up2 (up2 (up2 (up2 M 1 c (w + 1)) 1 (64 + c) 0) 1 (128 + c) y) 1 (192 + c) q) 1 d = up2 S 2 c w 2 d + 1
    rw [ap, up2_s, if_neg (by omega), if_neg (by omega), if_neg (by omega)]
    by_cases e : d = c
    · subst e; rw [if_pos rfl, pk_us]
    · rw [if_neg e, pk_un e]; exact r.2.2.1 2 d hd
  · intro d hd h
    replace h : up2 S 2 c w 2 d ≠ -1 := h
    show (up2 (up2 (up2 (up2 M 1 c (w + 1)) 1 (64 + c) 0) 1 (128 + c) y) 1 (192 + c) q) 1 (64 + d) = up2 S 3 c 0 3 d
    rw [up2_s] at h
    rw [ap, up2_s, if_neg (by omega), if_neg (by omega)]
    by_cases e : d = c
    · subst e; rw [if_pos rfl, pk_us]
    · rw [pk_un e] at h
      rw [if_neg (by omega), if_neg (by omega), pk_un e]; exact r.2.2.1 3 d hd h
  · intro d hd h
    replace h : up2 S 2 c w 2 d ≠ -1 := h
    show (up2 (up2 (up2 (up2 M 1 c (w + 1)) 1 (64 + c) 0) 1 (128 + c) y) 1 (192 + c) q) 1 (128 + d) = up2 S 4 c y 4 d
    rw [up2_s] at h
    rw [ap, up2_s, if_neg (by omega)]
    by_cases e : d = c
    · subst e; rw [if_pos rfl, pk_us]
    · rw [pk_un e] at h
      rw [if_neg (by omega), if_neg (by omega), if_neg (by omega), pk_un e]; exact r.2.2.1 4 d hd h
  · intro d hd h
    replace h : up2 S 2 c w 2 d ≠ -1 := h
    show (up2 (up2 (up2 (up2 M 1 c (w + 1)) 1 (64 + c) 0) 1 (128 + c) y) 1 (192 + c) q) 1 (192 + d) = up2 S 5 c q 5 d
    rw [up2_s] at h
    rw [ap, up2_s]
    by_cases e : d = c
    · subst e; rw [if_pos rfl, pk_us]
    · rw [pk_un e] at h
      rw [if_neg (by omega), if_neg (by omega), if_neg (by omega), if_neg (by omega), pk_un e]; exact r.2.2.1 5 d hd h
theorem RW.note (r : RW S L M) {k : Nat} {c w y q : Int32} (hk : S 0 17 = nI k) (hk1 : k < 100) : RW (up2 (up2 (up2 (up2 (up2 S (11 + k) 0 q) (11 + k) 1 c) (11 + k) 2 w) (11 + k) 3 y) 0 17 (nI k + 1)) L (up2 (up2 (up2 (up2 (up2 M 7 (4 * k) q) 7 (4 * k + 1) c) 7 (4 * k + 2) w) 7 (4 * k + 3) y) 1 347 (nI (k + 1))) := by
  have hi : Hq S (up2 (up2 (up2 (up2 (up2 S (11 + k) 0 q) (11 + k) 1 c) (11 + k) 2 w) (11 + k) 3 y) 0 17 (nI k + 1)) := fun o ho => by rw [up2_n (by omega), up2_n (by omega), up2_n (by omega), up2_n (by omega), up2_n (by omega)]
  have lo : ∀ o, 0 < o → o < 11 → (up2 (up2 (up2 (up2 (up2 S (11 + k) 0 q) (11 + k) 1 c) (11 + k) 2 w) (11 + k) 3 y) 0 17 (nI k + 1)) o = S o := fun o h1 h2 => by rw [up2_n (by omega), up2_n (by omega), up2_n (by omega), up2_n (by omega), up2_n (by omega)]
  have l0 : ∀ j, j ≠ 17 → (up2 (up2 (up2 (up2 (up2 S (11 + k) 0 q) (11 + k) 1 c) (11 + k) 2 w) (11 + k) 3 y) 0 17 (nI k + 1)) 0 j = S 0 j := fun j hj => by rw [up2_s, pk_un hj, up2_n (by omega), up2_n (by omega), up2_n (by omega), up2_n (by omega)]
  have ec : ∀ c', isCellB (up2 (up2 (up2 (up2 (up2 S (11 + k) 0 q) (11 + k) 1 c) (11 + k) 2 w) (11 + k) 3 y) 0 17 (nI k + 1)) c' = isCellB S c' := fun c' => by unfold isCellB; rw [l0 12 (by decide), l0 13 (by decide)]
  have hN : ∀ j, 256 ≤ j → j < 346 → (up2 (up2 (up2 (up2 (up2 M 7 (4 * k) q) 7 (4 * k + 1) c) 7 (4 * k + 2) w) 7 (4 * k + 3) y) 1 347 (nI (k + 1))) 1 j = M 1 j := fun j _ _ => by rw [up2_s, pk_un (by omega)]; rfl
  have nl : ∀ j, j < 347 → (up2 (up2 (up2 (up2 (up2 M 7 (4 * k) q) 7 (4 * k + 1) c) 7 (4 * k + 2) w) 7 (4 * k + 3) y) 1 347 (nI (k + 1))) 1 j = M 1 j := fun j _ => by rw [up2_s, pk_un (by omega)]; rfl
  have hg : gN (S 0 17) = k := by rw [hk]; exact gN_nI (by omega)
  have hg2 : gN (nI k + 1) = k + 1 := by rw [nI_1]; exact gN_nI (by omega)
  refine ⟨XB.of ?_ ?_ ?_ ?_ ?_ ?_ ?_ ?_ ?_ ?_ ?_, XN.of ?_ ?_ ?_ ?_ (xn4q hi r.2.1 (l0 16 (by decide)) ec) (xn5q hi r.2.1 (l0 16 (by decide))), RN.of ?_ ?_ ?_ ?_ ?_ ?_ (rn6q hi r.2.2.1 (r.1 4).2 (l0 16 (by decide)) hN) (rn7q hi r.2.2.1 (r.1 4).2 (l0 16 (by decide)) hN) (rn8q hi r.2.2.1 (r.1 4).2 (l0 16 (by decide)) hN) (rn9q hi r.2.2.1 (r.1 4).2 (l0 16 (by decide)) hN) (rn10 r.2.2.1 (by rw [l0 16 (by decide)]) hN), RB.of ?_ ?_ ?_ ?_ ?_ ?_ ?_ ?_ ?_ ?_ ?_ ?_ ?_, r.2.2.2.2.chg rfl rfl rfl rfl rfl rfl⟩
  · show Bd 8 ((up2 (up2 (up2 (up2 (up2 S (11 + k) 0 q) (11 + k) 1 c) (11 + k) 2 w) (11 + k) 3 y) 0 17 (nI k + 1)) 0 12) ∧ 3 ≤ gN ((up2 (up2 (up2 (up2 (up2 S (11 + k) 0 q) (11 + k) 1 c) (11 + k) 2 w) (11 + k) 3 y) 0 17 (nI k + 1)) 0 12)
    rw [l0 12 (by decide)]; exact r.1 0
  · show Bd 8 ((up2 (up2 (up2 (up2 (up2 S (11 + k) 0 q) (11 + k) 1 c) (11 + k) 2 w) (11 + k) 3 y) 0 17 (nI k + 1)) 0 13) ∧ 3 ≤ gN ((up2 (up2 (up2 (up2 (up2 S (11 + k) 0 q) (11 + k) 1 c) (11 + k) 2 w) (11 + k) 3 y) 0 17 (nI k + 1)) 0 13)
    rw [l0 13 (by decide)]; exact r.1 1
  · show Bd 9999 ((up2 (up2 (up2 (up2 (up2 S (11 + k) 0 q) (11 + k) 1 c) (11 + k) 2 w) (11 + k) 3 y) 0 17 (nI k + 1)) 0 14)
    rw [l0 14 (by decide)]; exact r.1 2
  · show Bd 12 ((up2 (up2 (up2 (up2 (up2 S (11 + k) 0 q) (11 + k) 1 c) (11 + k) 2 w) (11 + k) 3 y) 0 17 (nI k + 1)) 0 15)
    rw [l0 15 (by decide)]; exact r.1 3
  · show Bd 6 ((up2 (up2 (up2 (up2 (up2 S (11 + k) 0 q) (11 + k) 1 c) (11 + k) 2 w) (11 + k) 3 y) 0 17 (nI k + 1)) 0 16)
    rw [l0 16 (by decide)]; exact r.1 4
  · show Bd 1 ((up2 (up2 (up2 (up2 (up2 S (11 + k) 0 q) (11 + k) 1 c) (11 + k) 2 w) (11 + k) 3 y) 0 17 (nI k + 1)) 0 19)
    rw [l0 19 (by decide)]; exact r.1 5
  · show Bd 1000 ((up2 (up2 (up2 (up2 (up2 S (11 + k) 0 q) (11 + k) 1 c) (11 + k) 2 w) (11 + k) 3 y) 0 17 (nI k + 1)) 0 21)
    rw [l0 21 (by decide)]; exact r.1 6
  · show Bd 1000 ((up2 (up2 (up2 (up2 (up2 S (11 + k) 0 q) (11 + k) 1 c) (11 + k) 2 w) (11 + k) 3 y) 0 17 (nI k + 1)) 0 22)
    rw [l0 22 (by decide)]; exact r.1 7
  · show Bd 1000 ((up2 (up2 (up2 (up2 (up2 S (11 + k) 0 q) (11 + k) 1 c) (11 + k) 2 w) (11 + k) 3 y) 0 17 (nI k + 1)) 0 23)
    rw [l0 23 (by decide)]; exact r.1 8
  · intro d hd
    rw [lo 1 (by decide) (by decide)]; exact r.1 9 d hd
  · intro j hj
    rw [l0 15 (by decide)] at hj ⊢
    rw [lo 7 (by decide) (by decide), lo 8 (by decide) (by decide), lo 9 (by decide) (by decide)]; exact r.1 10 j hj
  · show Bd 100 ((up2 (up2 (up2 (up2 (up2 S (11 + k) 0 q) (11 + k) 1 c) (11 + k) 2 w) (11 + k) 3 y) 0 17 (nI k + 1)) 0 17)
    rw [up2_s, pk_us, nI_1]; exact bd_nI (by omega) (by decide)
  · show Bd 99 ((up2 (up2 (up2 (up2 (up2 S (11 + k) 0 q) (11 + k) 1 c) (11 + k) 2 w) (11 + k) 3 y) 0 17 (nI k + 1)) 0 20)
    rw [l0 20 (by decide)]; exact r.2.1 1
  · intro d hd
    rw [lo 2 (by decide) (by decide), l0 15 (by decide), ec]; exact r.2.1 2 d hd
  · intro d hd
    rw [lo 2 (by decide) (by decide), lo 3 (by decide) (by decide)]; exact r.2.1 3 d hd
  · show (up2 (up2 (up2 (up2 (up2 M 7 (4 * k) q) 7 (4 * k + 1) c) 7 (4 * k + 2) w) 7 (4 * k + 3) y) 1 347 (nI (k + 1))) 1 347 = (up2 (up2 (up2 (up2 (up2 S (11 + k) 0 q) (11 + k) 1 c) (11 + k) 2 w) (11 + k) 3 y) 0 17 (nI k + 1)) 0 17
    rw [up2_s, pk_us, up2_s, pk_us, nI_1]
  · show (up2 (up2 (up2 (up2 (up2 M 7 (4 * k) q) 7 (4 * k + 1) c) 7 (4 * k + 2) w) 7 (4 * k + 3) y) 1 347 (nI (k + 1))) 1 346 = (up2 (up2 (up2 (up2 (up2 S (11 + k) 0 q) (11 + k) 1 c) (11 + k) 2 w) (11 + k) 3 y) 0 17 (nI k + 1)) 0 20
    rw [nl _ (by omega), l0 20 (by decide)]; exact r.2.2.1 1
  · intro d hd
    rw [nl _ (by omega), lo 2 (by decide) (by decide)]; exact r.2.2.1 2 d hd
  · intro d hd h
    rw [lo 2 (by decide) (by decide)] at h
    rw [nl _ (by omega), lo 3 (by decide) (by decide)]; exact r.2.2.1 3 d hd h
  · intro d hd h
    rw [lo 2 (by decide) (by decide)] at h
    rw [nl _ (by omega), lo 4 (by decide) (by decide)]; exact r.2.2.1 4 d hd h
  · intro d hd h
    rw [lo 2 (by decide) (by decide)] at h
    rw [nl _ (by omega), lo 5 (by decide) (by decide)]; exact r.2.2.1 5 d hd h
  · show M 0 5 = (up2 (up2 (up2 (up2 (up2 S (11 + k) 0 q) (11 + k) 1 c) (11 + k) 2 w) (11 + k) 3 y) 0 17 (nI k + 1)) 0 12
    rw [l0 12 (by decide)]; exact r.2.2.2.1 0
  · show M 0 6 = (up2 (up2 (up2 (up2 (up2 S (11 + k) 0 q) (11 + k) 1 c) (11 + k) 2 w) (11 + k) 3 y) 0 17 (nI k + 1)) 0 13
    rw [l0 13 (by decide)]; exact r.2.2.2.1 1
  · show M 0 17 = (up2 (up2 (up2 (up2 (up2 S (11 + k) 0 q) (11 + k) 1 c) (11 + k) 2 w) (11 + k) 3 y) 0 17 (nI k + 1)) 0 14
    rw [l0 14 (by decide)]; exact r.2.2.2.1 2
  · show M 0 8 = (up2 (up2 (up2 (up2 (up2 S (11 + k) 0 q) (11 + k) 1 c) (11 + k) 2 w) (11 + k) 3 y) 0 17 (nI k + 1)) 0 15
    rw [l0 15 (by decide)]; exact r.2.2.2.1 3
  · show M 0 12 = (up2 (up2 (up2 (up2 (up2 S (11 + k) 0 q) (11 + k) 1 c) (11 + k) 2 w) (11 + k) 3 y) 0 17 (nI k + 1)) 0 16
    rw [l0 16 (by decide)]; exact r.2.2.2.1 4
  · show M 0 4 = (up2 (up2 (up2 (up2 (up2 S (11 + k) 0 q) (11 + k) 1 c) (11 + k) 2 w) (11 + k) 3 y) 0 17 (nI k + 1)) 0 18
    rw [l0 18 (by decide)]; exact r.2.2.2.1 5
  · show M 0 16 = (up2 (up2 (up2 (up2 (up2 S (11 + k) 0 q) (11 + k) 1 c) (11 + k) 2 w) (11 + k) 3 y) 0 17 (nI k + 1)) 0 19
    rw [l0 19 (by decide)]; exact r.2.2.2.1 6
  · show M 0 13 = (up2 (up2 (up2 (up2 (up2 S (11 + k) 0 q) (11 + k) 1 c) (11 + k) 2 w) (11 + k) 3 y) 0 17 (nI k + 1)) 0 21
    rw [l0 21 (by decide)]; exact r.2.2.2.1 7
  · show M 0 14 = (up2 (up2 (up2 (up2 (up2 S (11 + k) 0 q) (11 + k) 1 c) (11 + k) 2 w) (11 + k) 3 y) 0 17 (nI k + 1)) 0 22
    rw [l0 22 (by decide)]; exact r.2.2.2.1 8
  · show M 0 15 = (up2 (up2 (up2 (up2 (up2 S (11 + k) 0 q) (11 + k) 1 c) (11 + k) 2 w) (11 + k) 3 y) 0 17 (nI k + 1)) 0 23
    rw [l0 23 (by decide)]; exact r.2.2.2.1 9
  · intro d hd h
    rw [ec] at h
    show M 3 d = _
    rw [lo 1 (by decide) (by decide)]; exact r.2.2.2.1 10 d hd h
  · intro j hj
    rw [l0 15 (by decide)] at hj
    show M 4 j = _ ∧ M 5 j = _ ∧ M 6 j = _
    rw [lo 7 (by decide) (by decide), lo 8 (by decide) (by decide), lo 9 (by decide) (by decide)]; exact r.2.2.2.1 11 j hj
  · intro i j hq hj
    rw [up2_s, pk_us, hg2] at hq
    rw [up2_n (show (7 : Nat) ≠ 1 by decide), up2_n (show 11 + i ≠ 0 by omega)]
    rw [up2_ap, up2_ap, up2_ap, up2_ap, up2_ap, up2_ap, up2_ap, up2_ap]
    by_cases e : i = k
    · subst e
      match j, hj with
      | 0, _ => rw [if_neg (by omega), if_neg (by omega), if_neg (by omega), if_pos (by omega), if_neg (by omega), if_neg (by omega), if_neg (by omega), if_pos (by omega)]
      | 1, _ => rw [if_neg (by omega), if_neg (by omega), if_pos (by omega), if_neg (by omega), if_neg (by omega), if_pos (by omega)]
      | 2, _ => rw [if_neg (by omega), if_pos (by omega), if_neg (by omega), if_pos (by omega)]
      | 3, _ => rw [if_pos (by omega), if_pos (by omega)]
    · rw [if_neg (by omega), if_neg (by omega), if_neg (by omega), if_neg (by omega), if_neg (by omega), if_neg (by omega), if_neg (by omega), if_neg (by omega)]
      exact r.2.2.2.1 12 i j (by omega) hj
theorem prS_o {S : SS} {k o : Nat} {c : Int32} (h : o ≠ 113 + 2 * k) (h2 : o ≠ 113 + 2 * k + 1) : prS S k c o = S o := by
  unfold prS setP
  rw [setF_n h2, setF_n h]
theorem prS_s {S : SS} {k : Nat} {c : Int32} : prS S k c (113 + 2 * k) 1 = c ∧ prS S k c (113 + 2 * k) 2 = 0 ∧ prS S k c (113 + 2 * k) 3 = 0 ∧ ∀ w, w < 12 → prS S k c (113 + 2 * k + 1) w = 0 := by
  unfold prS setP
  rw [setF_n (by omega), setF_s, setF_s]
  refine ⟨rfl, rfl, rfl, fun w hw => ?_⟩
  rw [cpy_lt hw]
theorem RW.person (r : RW S L M) {k : Nat} {c : Int32} (hk : S 0 16 = nI k) (hk6 : k < 6) (hc : Bd 63 c ∧ isCellB S c = true) : RW (up2 (prS S k c) 0 16 (nI k + 1)) L (up2 (up2 M 1 (256 + k) c) 0 12 (nI k + 1)) := by
  have lo : ∀ o, 0 < o → o < 113 → (up2 (prS S k c) 0 16 (nI k + 1)) o = S o := fun o h1 h2 => by rw [up2_n (by omega), prS_o (by omega) (by omega)]
  have l0 : ∀ j, j ≠ 16 → (up2 (prS S k c) 0 16 (nI k + 1)) 0 j = S 0 j := fun j hj => by rw [up2_s, pk_un hj, prS_o (by omega) (by omega)]
  have hh : ∀ o, 113 ≤ o → (up2 (prS S k c) 0 16 (nI k + 1)) o = prS S k c o := fun o ho => up2_n (by omega)
  have ec : ∀ c', isCellB (up2 (prS S k c) 0 16 (nI k + 1)) c' = isCellB S c' := fun c' => by unfold isCellB; rw [l0 12 (by decide), l0 13 (by decide)]
  have nl : ∀ j, j ≠ 256 + k → (up2 (up2 M 1 (256 + k) c) 0 12 (nI k + 1)) 1 j = M 1 j := fun j hj => by rw [up2_n (by decide), up2_s, pk_un hj]
  have hg : gN (S 0 16) = k := by rw [hk]; exact gN_nI (by omega)
  have hg2 : gN ((up2 (prS S k c) 0 16 (nI k + 1)) 0 16) = k + 1 := by rw [up2_s, pk_us, nI_1]; exact gN_nI (by omega)
  refine ⟨XB.of ?_ ?_ ?_ ?_ ?_ ?_ ?_ ?_ ?_ ?_ ?_, XN.of ?_ ?_ ?_ ?_ ?_ ?_, RN.of ?_ ?_ ?_ ?_ ?_ ?_ ?_ ?_ ?_ ?_ ?_, RB.of ?_ ?_ ?_ ?_ ?_ ?_ ?_ ?_ ?_ ?_ ?_ ?_ ?_, r.2.2.2.2.chg rfl rfl rfl rfl rfl rfl⟩
  · show Bd 8 ((up2 (prS S k c) 0 16 (nI k + 1)) 0 12) ∧ 3 ≤ gN ((up2 (prS S k c) 0 16 (nI k + 1)) 0 12)
    rw [l0 12 (by decide)]; exact r.1 0
  · show Bd 8 ((up2 (prS S k c) 0 16 (nI k + 1)) 0 13) ∧ 3 ≤ gN ((up2 (prS S k c) 0 16 (nI k + 1)) 0 13)
    rw [l0 13 (by decide)]; exact r.1 1
  · show Bd 9999 ((up2 (prS S k c) 0 16 (nI k + 1)) 0 14)
    rw [l0 14 (by decide)]; exact r.1 2
  · show Bd 12 ((up2 (prS S k c) 0 16 (nI k + 1)) 0 15)
    rw [l0 15 (by decide)]; exact r.1 3
  · show Bd 6 ((up2 (prS S k c) 0 16 (nI k + 1)) 0 16)
    rw [up2_s, pk_us, nI_1]; exact bd_nI (by omega) (by decide)
  · show Bd 1 ((up2 (prS S k c) 0 16 (nI k + 1)) 0 19)
    rw [l0 19 (by decide)]; exact r.1 5
  · show Bd 1000 ((up2 (prS S k c) 0 16 (nI k + 1)) 0 21)
    rw [l0 21 (by decide)]; exact r.1 6
  · show Bd 1000 ((up2 (prS S k c) 0 16 (nI k + 1)) 0 22)
    rw [l0 22 (by decide)]; exact r.1 7
  · show Bd 1000 ((up2 (prS S k c) 0 16 (nI k + 1)) 0 23)
    rw [l0 23 (by decide)]; exact r.1 8
  · intro d hd
    rw [lo 1 (by decide) (by decide)]; exact r.1 9 d hd
  · intro j hj
    rw [l0 15 (by decide)] at hj ⊢
    rw [lo 7 (by decide) (by decide), lo 8 (by decide) (by decide), lo 9 (by decide) (by decide)]; exact r.1 10 j hj
  · show Bd 100 ((up2 (prS S k c) 0 16 (nI k + 1)) 0 17)
    rw [l0 17 (by decide)]; exact r.2.1 0
  · show Bd 99 ((up2 (prS S k c) 0 16 (nI k + 1)) 0 20)
    rw [l0 20 (by decide)]; exact r.2.1 1
  · intro d hd
    rw [lo 2 (by decide) (by decide), l0 15 (by decide), ec]; exact r.2.1 2 d hd
  · intro d hd
    rw [lo 2 (by decide) (by decide), lo 3 (by decide) (by decide)]; exact r.2.1 3 d hd
  · intro p hp
    rw [hg2] at hp
    rw [hh _ (by omega), ec]
    by_cases e : p = k
    · subst e; rw [prS_s.1]; exact hc
    · rw [prS_o (by omega) (by omega)]; exact r.2.1 4 p (by omega)
  · intro p hp
    rw [hg2] at hp
    rw [hh _ (by omega)]
    by_cases e : p = k
    · subst e; rw [prS_s.2.1]; exact bd_nI (n := 0) (by decide) (by decide)
    · rw [prS_o (by omega) (by omega)]; exact r.2.1 5 p (by omega)
  · show (up2 (up2 M 1 (256 + k) c) 0 12 (nI k + 1)) 1 347 = (up2 (prS S k c) 0 16 (nI k + 1)) 0 17
    rw [nl _ (by omega), l0 17 (by decide)]; exact r.2.2.1 0
  · show (up2 (up2 M 1 (256 + k) c) 0 12 (nI k + 1)) 1 346 = (up2 (prS S k c) 0 16 (nI k + 1)) 0 20
    rw [nl _ (by omega), l0 20 (by decide)]; exact r.2.2.1 1
  · intro d hd
    rw [nl _ (by omega), lo 2 (by decide) (by decide)]; exact r.2.2.1 2 d hd
  · intro d hd h
    rw [lo 2 (by decide) (by decide)] at h
    rw [nl _ (by omega), lo 3 (by decide) (by decide)]; exact r.2.2.1 3 d hd h
  · intro d hd h
    rw [lo 2 (by decide) (by decide)] at h
    rw [nl _ (by omega), lo 4 (by decide) (by decide)]; exact r.2.2.1 4 d hd h
  · intro d hd h
    rw [lo 2 (by decide) (by decide)] at h
    rw [nl _ (by omega), lo 5 (by decide) (by decide)]; exact r.2.2.1 5 d hd h
  · intro p hp
    rw [hg2] at hp
    rw [hh _ (by omega)]
    by_cases e : p = k
    · subst e; rw [prS_s.1, up2_n (by decide), up2_s, pk_us]
    · rw [prS_o (by omega) (by omega), nl _ (by omega)]; exact r.2.2.1 6 p (by omega)
  · intro p hp
    rw [hg2] at hp
    rw [hh _ (by omega), nl _ (by omega)]
    by_cases e : p = k
    · subst e; rw [prS_s.2.1]; exact (r.2.2.1 10 p (by omega) hk6).1
    · rw [prS_o (by omega) (by omega)]; exact r.2.2.1 7 p (by omega)
  · intro p hp
    rw [hg2] at hp
    rw [hh _ (by omega), nl _ (by omega)]
    by_cases e : p = k
    · subst e; rw [prS_s.2.2.1]; exact (r.2.2.1 10 p (by omega) hk6).2.1
    · rw [prS_o (by omega) (by omega)]; exact r.2.2.1 8 p (by omega)
  · intro p w hp hw
    rw [hg2] at hp
    rw [hh _ (by omega), nl _ (by omega)]
    by_cases e : p = k
    · subst e; rw [prS_s.2.2.2 w hw]; exact (r.2.2.1 10 p (by omega) hk6).2.2 w hw
    · rw [prS_o (by omega) (by omega)]; exact r.2.2.1 9 p w (by omega) hw
  · intro p h1 h2
    rw [hg2] at h1
    obtain ⟨a1, a2, a3⟩ := r.2.2.1 10 p (by omega) h2
    refine ⟨?_, ?_, fun w hw => ?_⟩
    · rw [nl _ (by omega)]; exact a1
    · rw [nl _ (by omega)]; exact a2
    · rw [nl _ (by omega)]; exact a3 w hw
  · show M 0 5 = (up2 (prS S k c) 0 16 (nI k + 1)) 0 12
    rw [l0 12 (by decide)]; exact r.2.2.2.1 0
  · show M 0 6 = (up2 (prS S k c) 0 16 (nI k + 1)) 0 13
    rw [l0 13 (by decide)]; exact r.2.2.2.1 1
  · show M 0 17 = (up2 (prS S k c) 0 16 (nI k + 1)) 0 14
    rw [l0 14 (by decide)]; exact r.2.2.2.1 2
  · show M 0 8 = (up2 (prS S k c) 0 16 (nI k + 1)) 0 15
    rw [l0 15 (by decide)]; exact r.2.2.2.1 3
  · show (up2 (up2 M 1 (256 + k) c) 0 12 (nI k + 1)) 0 12 = (up2 (prS S k c) 0 16 (nI k + 1)) 0 16
    rw [up2_s, pk_us, up2_s, pk_us]
  · show M 0 4 = (up2 (prS S k c) 0 16 (nI k + 1)) 0 18
    rw [l0 18 (by decide)]; exact r.2.2.2.1 5
  · show M 0 16 = (up2 (prS S k c) 0 16 (nI k + 1)) 0 19
    rw [l0 19 (by decide)]; exact r.2.2.2.1 6
  · show M 0 13 = (up2 (prS S k c) 0 16 (nI k + 1)) 0 21
    rw [l0 21 (by decide)]; exact r.2.2.2.1 7
  · show M 0 14 = (up2 (prS S k c) 0 16 (nI k + 1)) 0 22
    rw [l0 22 (by decide)]; exact r.2.2.2.1 8
  · show M 0 15 = (up2 (prS S k c) 0 16 (nI k + 1)) 0 23
    rw [l0 23 (by decide)]; exact r.2.2.2.1 9
  · intro d hd h
    rw [ec] at h
    show M 3 d = _
    rw [lo 1 (by decide) (by decide)]; exact r.2.2.2.1 10 d hd h
  · intro j hj
    rw [l0 15 (by decide)] at hj
    show M 4 j = _ ∧ M 5 j = _ ∧ M 6 j = _
    rw [lo 7 (by decide) (by decide), lo 8 (by decide) (by decide), lo 9 (by decide) (by decide)]; exact r.2.2.2.1 11 j hj
  · intro i j hq hj
    rw [l0 17 (by decide)] at hq
    have := (r.2.1 0).2
    show M 7 (4 * i + j) = _
    rw [lo (11 + i) (by omega) (by omega)]; exact r.2.2.2.1 12 i j hq hj
end ST
