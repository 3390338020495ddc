set_option maxRecDepth 100000
/-! A DAY, of the wood and of the model -/
/-- the high cells are as they were -/
def Hi (S S' : SS) : Prop := ∀ o, 11 ≤ o → S' o = S o
theorem xn4 {S S' : SS} (hi : Hi S S') (r : XN S S) (h16 : S' 0 16 = S 0 16) (hc : ∀ c, isCellB S' c = isCellB S c) : ∀ p, p < gN (S' 0 16) → Bd 63 (S' (113 + 2 * p) 1) ∧ isCellB S' (S' (113 + 2 * p) 1) = true := by
  intro p hp
  rw [h16] at hp
  rw [hi _ (by omega), hc]; exact r 4 p hp
theorem xn5 {S S' : SS} (hi : Hi S S') (r : XN S S) (h16 : S' 0 16 = S 0 16) : ∀ p, p < gN (S' 0 16) → Bd 99 (S' (113 + 2 * p) 2) := by
  intro p hp
  rw [h16] at hp
  rw [hi _ (by omega)]; exact r 5 p hp
section RNH
variable {S S' : SS} {N N' : Nat → Int32}
theorem rn6 (hi : Hi S S') (r : RN S (gN (S 0 16)) N) (h6 : gN (S 0 16) ≤ 6) (h16 : S' 0 16 = S 0 16) (hN : ∀ j, 256 ≤ j → j < 346 → N' j = N j) : ∀ p, p < gN (S' 0 16) → N' (256 + p) = S' (113 + 2 * p) 1 := by
  intro p hp
  rw [h16] at hp
  rw [hi _ (by omega), hN _ (by omega) (by omega)]; exact r 6 p hp
theorem rn7 (hi : Hi S S') (r : RN S (gN (S 0 16)) N) (h6 : gN (S 0 16) ≤ 6) (h16 : S' 0 16 = S 0 16) (hN : ∀ j, 256 ≤ j → j < 346 → N' j = N j) : ∀ p, p < gN (S' 0 16) → N' (262 + p) = S' (113 + 2 * p) 2 := by
  intro p hp
  rw [h16] at hp
  rw [hi _ (by omega), hN _ (by omega) (by omega)]; exact r 7 p hp
theorem rn8 (hi : Hi S S') (r : RN S (gN (S 0 16)) N) (h6 : gN (S 0 16) ≤ 6) (h16 : S' 0 16 = S 0 16) (hN : ∀ j, 256 ≤ j → j < 346 → N' j = N j) : ∀ p, p < gN (S' 0 16) → N' (268 + p) = S' (113 + 2 * p) 3 := by
  intro p hp
  rw [h16] at hp
  rw [hi _ (by omega), hN _ (by omega) (by omega)]; exact r 8 p hp
theorem rn9 (hi : Hi S S') (r : RN S (gN (S 0 16)) N) (h6 : gN (S 0 16) ≤ 6) (h16 : S' 0 16 = S 0 16) (hN : ∀ j, 256 ≤ j → j < 346 → N' j = N j) : ∀ p w, p < gN (S' 0 16) → w < 12 → N' (274 + 12 * p + w) = S' (113 + 2 * p + 1) w := by
  intro p w hp hw
  rw [h16] at hp
  rw [hi _ (by omega), hN _ (by omega) (by omega)]; exact r 9 p w hp hw
theorem rn10 {T : SS} {m m' : Nat} (r : RN T m N) (h16 : m' = m) (hN : ∀ j, 256 ≤ j → j < 346 → N' j = N j) : ∀ p, m' ≤ p → p < 6 → N' (262 + p) = 0 ∧ N' (268 + p) = 0 ∧ ∀ w, w < 12 → N' (274 + 12 * p + w) = 0 := by
  intro p h1 h2
  rw [h16] at h1
  obtain ⟨a1, a2, a3⟩ := r 10 p h1 h2
  refine ⟨?_, ?_, fun w hw => ?_⟩
  · rw [hN _ (by omega) (by omega)]; exact a1
  · rw [hN _ (by omega) (by omega)]; exact a2
  · rw [hN _ (by omega) (by omega)]; exact a3 w hw
end RNH
theorem rb12 {S S' M M' : SS} (hi : Hi S S') (r : RB S M) (h17 : S' 0 17 = S 0 17) (h7 : M' 7 = M 7) : ∀ i j, i < gN (S' 0 17) → j < 4 → M' 7 (4 * i + j) = S' (11 + i) j := by
  intro i j hi2 hj
  rw [h17] at hi2
  rw [hi _ (by omega), h7]; exact r 12 i j hi2 hj
section DY
variable {S M : SS} {L : List Line9}
theorem RW.st (r : RW S L M) (x : Int32) : RW (up2 S 0 18 x) L (up2 M 0 4 x) := by
  have hi : Hi S (up2 S 0 18 x) := fun o ho => up2_n (by omega)
  have hN : ∀ j, 256 ≤ j → j < 346 → up2 M 0 4 x 1 j = M 1 j := fun j _ _ => rfl
  refine ⟨XB.of (r.1 0) (r.1 1) (r.1 2) (r.1 3) (r.1 4) (r.1 5) (r.1 6) (r.1 7) (r.1 8) (r.1 9) (r.1 10), XN.of (r.2.1 0) (r.2.1 1) (r.2.1 2) (r.2.1 3) (xn4 hi r.2.1 rfl (fun _ => rfl)) (xn5 hi r.2.1 rfl), RN.of (r.2.2.1 0) (r.2.2.1 1) (r.2.2.1 2) (r.2.2.1 3) (r.2.2.1 4) (r.2.2.1 5) (rn6 hi r.2.2.1 (r.1 4).2 rfl hN) (rn7 hi r.2.2.1 (r.1 4).2 rfl hN) (rn8 hi r.2.2.1 (r.1 4).2 rfl hN) (rn9 hi r.2.2.1 (r.1 4).2 rfl hN) (rn10 r.2.2.1 rfl hN), RB.of (r.2.2.2.1 0) (r.2.2.2.1 1) (r.2.2.2.1 2) (r.2.2.2.1 3) (r.2.2.2.1 4) ?_ (r.2.2.2.1 6) (r.2.2.2.1 7) (r.2.2.2.1 8) (r.2.2.2.1 9) (r.2.2.2.1 10) (r.2.2.2.1 11) (rb12 hi r.2.2.2.1 rfl rfl), r.2.2.2.2.chg rfl rfl rfl rfl rfl rfl⟩
  rfl
theorem RW.dr (r : RW S L M) : RW (drw S) L (drwM M) := by
  unfold drw drwM
  rw [show M 0 4 = _ from r.2.2.2.1 5]
  exact r.st _
/-- a cap goes -/
theorem RW.pick (r : RW S L M) {c : Nat} (hc : c < 64) : RW (up2 S 2 c (-1)) L (up2 M 1 c 0) := by
  have hi : Hi S (up2 S 2 c (-1)) := fun o ho => up2_n (by omega)
  have hN : ∀ j, 256 ≤ j → j < 346 → up2 M 1 c 0 1 j = M 1 j := fun j _ _ => by rw [up2_s, pk_un (by omega)]
  refine ⟨XB.of (r.1 0) (r.1 1) (r.1 2) (r.1 3) (r.1 4) (r.1 5) (r.1 6) (r.1 7) (r.1 8) (r.1 9) (r.1 10), XN.of (r.2.1 0) (r.2.1 1) ?_ ?_ (xn4 hi r.2.1 rfl (fun _ => rfl)) (xn5 hi r.2.1 rfl), RN.of ?_ ?_ ?_ ?_ ?_ ?_ (rn6 hi r.2.2.1 (r.1 4).2 rfl hN) (rn7 hi r.2.2.1 (r.1 4).2 rfl hN) (rn8 hi r.2.2.1 (r.1 4).2 rfl hN) (rn9 hi r.2.2.1 (r.1 4).2 rfl hN) (rn10 r.2.2.1 rfl hN), RB.of (r.2.2.2.1 0) (r.2.2.2.1 1) (r.2.2.2.1 2) (r.2.2.2.1 3) (r.2.2.2.1 4) (r.2.2.2.1 5) (r.2.2.2.1 6) (r.2.2.2.1 7) (r.2.2.2.1 8) (r.2.2.2.1 9) (r.2.2.2.1 10) (r.2.2.2.1 11) (rb12 hi r.2.2.2.1 rfl rfl), r.2.2.2.2.chg rfl rfl rfl rfl rfl rfl⟩
  · intro d hd
    show up2 S 2 c (-1) 2 d = -1 ∨ _
    rw [up2_s]
    by_cases e : d = c
    · subst e; rw [pk_us]; exact Or.inl rfl
    · rw [pk_un e]; exact r.2.1 2 d hd
  · intro d hd
    show up2 S 2 c (-1) 2 d ≠ -1 → _
    rw [up2_s]
    by_cases e : d = c
    · subst e; rw [pk_us]; intro q; exact absurd rfl q
    · rw [pk_un e]; exact r.2.1 3 d hd
  · show up2 M 1 c 0 1 (347) = _
    rw [up2_s, pk_un (by omega)]; exact r.2.2.1 0
  · show up2 M 1 c 0 1 (346) = _
    rw [up2_s, pk_un (by omega)]; exact r.2.2.1 1
  · intro d hd
    show up2 M 1 c 0 1 d = up2 S 2 c (-1) 2 d + 1
    rw [up2_s, up2_s]
    by_cases e : d = c
    · subst e; rw [pk_us, pk_us]; rfl
    · rw [pk_un e, pk_un e]; exact r.2.2.1 2 d hd
  · intro d hd q
    show up2 M 1 c 0 1 (64 + d) = S 3 d
    replace q : up2 S 2 c (-1) 2 d ≠ -1 := q
    rw [up2_s] at q
    rw [up2_s, pk_un (by omega)]
    by_cases e : d = c
    · subst e; rw [pk_us] at q; exact absurd rfl q
    · rw [pk_un e] at q; exact r.2.2.1 3 d hd q
  · intro d hd q
    show up2 M 1 c 0 1 (128 + d) = S 4 d
    replace q : up2 S 2 c (-1) 2 d ≠ -1 := q
    rw [up2_s] at q
    rw [up2_s, pk_un (by omega)]
    by_cases e : d = c
    · subst e; rw [pk_us] at q; exact absurd rfl q
    · rw [pk_un e] at q; exact r.2.2.1 4 d hd q
  · intro d hd q
    show up2 M 1 c 0 1 (192 + d) = S 5 d
    replace q : up2 S 2 c (-1) 2 d ≠ -1 := q
    rw [up2_s] at q
    rw [up2_s, pk_un (by omega)]
    by_cases e : d = c
    · subst e; rw [pk_us] at q; exact absurd rfl q
    · rw [pk_un e] at q; exact r.2.2.1 5 d hd q
/-- sizes -/
def szN (M : SS) (g : Nat → Int32) : SS := setF M 1 (fun j => if 64 ≤ j ∧ j < 128 then g (j - 64) else M 1 j)
theorem clamp_bd {x : Int32} : Bd 999 (clampI 0 999 x) := by
  unfold clampI maxI minI
  by_cases h : x < 999
  · rw [if_pos h]
    by_cases h2 : 0 < x
    · rw [if_pos h2]; exact Bd.of (by decide) (Int32.le_of_lt h2) (Int32.le_of_lt h)
    · rw [if_neg h2]; exact bd_nI (n := 0) (by decide) (by decide)
  · rw [if_neg h, if_pos (by decide)]; exact bd_nI (n := 999) (by decide) (by decide)
theorem RW.grow (r : RW S L M) (x : Int32) {g : Nat → Int32} (hg : ∀ c, c < 64 → capB S (nI c) = true → g c = szF S L 64 c) : RW (up2 (allGrowF S L) 0 24 x) L (szN M g) := by
  have hi : Hi S (up2 (allGrowF S L) 0 24 x) := fun o ho => by
    unfold allGrowF
    rw [up2_n (by omega), setF_n (by omega), setF_n (by omega)]
  have hN : ∀ j, 256 ≤ j → j < 346 → szN M g 1 j = M 1 j := fun j _ _ => by
    show (if 64 ≤ j ∧ j < 128 then g (j - 64) else M 1 j) = M 1 j
    rw [if_neg (by omega)]
  have hne : ∀ c, c < 64 → S 2 c ≠ -1 → capB S (nI c) = true := fun c hc h => by rw [cap_eq r hc]; simp [h]
  refine ⟨XB.of (r.1 0) (r.1 1) (r.1 2) (r.1 3) (r.1 4) (r.1 5) (r.1 6) (r.1 7) (r.1 8) (r.1 9) (r.1 10), XN.of (r.2.1 0) (r.2.1 1) (r.2.1 2) ?_ (xn4 hi r.2.1 rfl (fun _ => rfl)) (xn5 hi r.2.1 rfl), RN.of (r.2.2.1 0) (r.2.2.1 1) ?_ ?_ ?_ ?_ (rn6 hi r.2.2.1 (r.1 4).2 rfl hN) (rn7 hi r.2.2.1 (r.1 4).2 rfl hN) (rn8 hi r.2.2.1 (r.1 4).2 rfl hN) (rn9 hi r.2.2.1 (r.1 4).2 rfl hN) (rn10 r.2.2.1 rfl hN), RB.of (r.2.2.2.1 0) (r.2.2.2.1 1) (r.2.2.2.1 2) (r.2.2.2.1 3) (r.2.2.2.1 4) (r.2.2.2.1 5) (r.2.2.2.1 6) (r.2.2.2.1 7) (r.2.2.2.1 8) (r.2.2.2.1 9) (r.2.2.2.1 10) (r.2.2.2.1 11) (rb12 hi r.2.2.2.1 rfl rfl), r.2.2.2.2.chg rfl rfl rfl rfl rfl rfl⟩
  · intro c hc h
    show Bd 999 (szF S L 64 c)
    unfold szF
    rw [if_pos ⟨hc, hne c hc h⟩]
    exact clamp_bd
  · intro c hc
    show (if 64 ≤ c ∧ c < 128 then g (c - 64) else M 1 c) = S 2 c + 1
    rw [if_neg (by omega)]; exact r.2.2.1 2 c hc
  · intro c hc h
    show (if 64 ≤ 64 + c ∧ 64 + c < 128 then g (64 + c - 64) else M 1 (64 + c)) = szF S L 64 c
    rw [if_pos (by omega), show 64 + c - 64 = c from by omega]
    exact hg c hc (hne c hc h)
  · intro c hc h
    show (if 64 ≤ 128 + c ∧ 128 + c < 128 then g (128 + c - 64) else M 1 (128 + c)) = S 4 c
    rw [if_neg (by omega)]; exact r.2.2.1 4 c hc h
  · intro c hc h
    show (if 64 ≤ 192 + c ∧ 192 + c < 128 then g (192 + c - 64) else M 1 (192 + c)) = S 5 c
    rw [if_neg (by omega)]; exact r.2.2.1 5 c hc h
theorem RW.grow2 (r : RW S L M) (x : Int32) {S1 : SS} (h1 : Chg [16, 17, 18, 19] M S1) (hg : ∀ c, c < 64 → capB S (nI c) = true → S1 18 c = szF S L 64 c) : RW (up2 (allGrowF S L) 0 24 x) L (cpsM S1) := by
  refine (r.grow x hg).congr (fun o k hv => ?_)
  by_cases e1 : o = 1
  · subst e1
    show (if 64 ≤ k ∧ k < 64 + 64 then S1 18 (k - 64) else S1 1 k) = (if 64 ≤ k ∧ k < 128 then S1 18 (k - 64) else M 1 k)
    rw [h1 1 rfl]
  · show setF S1 1 _ o k = setF M 1 _ o k
    rw [setF_n e1, setF_n e1, h1 o ?_]
    have h9 := vp_n hv
    unfold vpos at hv
    have : o = 0 ∨ o = 3 ∨ o = 4 ∨ o = 5 ∨ o = 6 ∨ o = 7 ∨ o = 10 ∨ o = 11 ∨ o = 12 ∨ o = 13 ∨ o = 14 := by omega
    rcases this with rfl | rfl | rfl | rfl | rfl | rfl | rfl | rfl | rfl | rfl | rfl <;> rfl
/-! eating -/
theorem capAt_P (S : SS) : ∀ (n c : Nat) (k : Int32), capAtF S n c k = capAtP (fun c => capB S (nI c)) n c k
  | 0, _, _ => rfl
  | n + 1, c, k => by
    unfold capAtF capAtP
    rw [capAt_P S n (c + 1)]
theorem capAtP_congr {p q : Nat → Bool} : ∀ (n c : Nat) (k : Int32), (∀ d, d < c + n → p d = q d) → capAtP p n c k = capAtP q n c k
  | 0, _, _, _ => rfl
  | n + 1, c, k, h => by
    unfold capAtP
    rw [h c (by omega), capAtP_congr n (c + 1) _ (fun d hd => h d (by omega))]
theorem RW.caps (r : RW S L M) : capsM M = capsN S 64 := by
  unfold capsM
  rw [foldN_congr (p := capM M) (q := fun k => capB S (nI k)) (g' := fun _ x => x + 1) (fun k hk => (cap_M r hk).symm) (fun _ _ _ _ => rfl)]
  exact fold_sum (q := capsN S) rfl (fun k _ => rfl)
theorem Bd.le0 {B : Nat} {x : Int32} (h : Bd B x) (hB : B < 2 ^ 31) : x ≤ 0 ↔ x = 0 := by
  constructor
  · intro q
    exact Int32.le_antisymm q (h.ge hB)
  · intro q; rw [q]; decide
theorem RW.eat (r : RW S L M) : RW (eatS S) L (eatM M) ∧ eatE S = eatEM M := by
  have e15 : M 0 15 = S 0 23 := r.2.2.2.1 9
  have e4 : M 0 4 = S 0 18 := r.2.2.2.1 5
  have h23 := (r.1 8).le0 (by decide)
  have hc : capsN S 64 ≤ 0 ↔ capsM M = 0 := by
    have h9 := cntP_le (capM M) 64 0
    rw [← r.caps, caps_cnt]
    show nI _ ≤ nI 0 ↔ nI _ = nI 0
    rw [nI_leI (by omega) (by decide), nI_eq (by omega) (by decide)]
    omega
  unfold eatS eatE eatM eatEM
  rw [e15, e4]
  by_cases h1 : S 0 23 ≤ 0
  · rw [if_pos h1, if_pos h1, if_pos (h23.mp h1), if_pos (h23.mp h1)]; exact ⟨r, rfl⟩
  rw [if_neg h1, if_neg h1, if_neg (fun q => h1 (h23.mpr q)), if_neg (fun q => h1 (h23.mpr q))]
  by_cases h2 : capsN S 64 ≤ 0
  · rw [if_pos h2, if_pos h2, if_pos (hc.mp h2), if_pos (hc.mp h2)]; exact ⟨r, rfl⟩
  have h2' : ¬ capsM M = 0 := fun q => h2 (hc.mpr q)
  rw [if_neg h2, if_neg h2, if_neg h2', if_neg h2']
  by_cases h3 : S 0 23 ≤ drawR (S 0 18) 1000
  · rw [if_pos h3, if_pos h3, if_pos h3]; exact ⟨r.dr, rfl⟩
  rw [if_neg h3, if_neg h3, if_neg h3]
  refine ⟨?_, rfl⟩
  have eq : eatC S = eatCM M := by
    unfold eatC eatCM
    rw [capAt_P, capsN_congr (S := S) (S' := drw S) rfl rfl rfl, ← r.caps, show drw S 0 18 = drawS (M 0 4) from by rw [e4]; rfl]
    refine capAtP_congr 64 0 _ (fun d hd => ?_)
    show capB S (nI d) = capM M d
    exact cap_M r (by omega)
  rw [eq]
  exact r.dr.dr.pick (eatCM_lt h2')
/-! rain -/
theorem dcl_ok : ∀ s, s < 100 → dclM (nI s - 10 + 5) = clampI 0 99 (nI s + 5) - 10 ∧ dclM (nI s - 10 + -1) = clampI 0 99 (nI s + -1) - 10 ∧ clampI 0 99 (nI s + 5) = nI (gN (clampI 0 99 (nI s + 5))) ∧ gN (clampI 0 99 (nI s + 5)) ≤ 99 ∧ clampI 0 99 (nI s + -1) = nI (gN (clampI 0 99 (nI s + -1))) ∧ gN (clampI 0 99 (nI s + -1)) ≤ 99 := by decide +kernel
theorem RW.wet (r : RW S L M) (w : Bool) : RW (allDampF S (bif w then 5 else -1)) L (setF M 3 (ranF M w 64)) := by
  have hi : Hi S (allDampF S (bif w then 5 else -1)) := fun o ho => setF_n (by omega)
  have hN : ∀ j, 256 ≤ j → j < 346 → setF M 3 (ranF M w 64) 1 j = M 1 j := fun j _ _ => rfl
  refine ⟨XB.of (r.1 0) (r.1 1) (r.1 2) (r.1 3) (r.1 4) (r.1 5) (r.1 6) (r.1 7) (r.1 8) ?_ (r.1 10), XN.of (r.2.1 0) (r.2.1 1) (r.2.1 2) (r.2.1 3) (xn4 hi r.2.1 rfl (fun _ => rfl)) (xn5 hi r.2.1 rfl), RN.of (r.2.2.1 0) (r.2.2.1 1) (r.2.2.1 2) (r.2.2.1 3) (r.2.2.1 4) (r.2.2.1 5) (rn6 hi r.2.2.1 (r.1 4).2 rfl hN) (rn7 hi r.2.2.1 (r.1 4).2 rfl hN) (rn8 hi r.2.2.1 (r.1 4).2 rfl hN) (rn9 hi r.2.2.1 (r.1 4).2 rfl hN) (rn10 r.2.2.1 rfl hN), RB.of (r.2.2.2.1 0) (r.2.2.2.1 1) (r.2.2.2.1 2) (r.2.2.2.1 3) (r.2.2.2.1 4) (r.2.2.2.1 5) (r.2.2.2.1 6) (r.2.2.2.1 7) (r.2.2.2.1 8) (r.2.2.2.1 9) ?_ (r.2.2.2.1 11) (rb12 hi r.2.2.2.1 rfl rfl), r.2.2.2.2.chg rfl rfl rfl rfl rfl rfl⟩
  · intro c hc
    show Bd 99 (dampF S (bif w then 5 else -1) 64 c)
    unfold dampF
    have hb := r.1 9 c hc
    split
    · obtain ⟨-, -, a3, a4, a5, a6⟩ := dcl_ok (gN (S 1 c)) (by have := hb.2; omega)
      rw [← hb.1] at a3 a4 a5 a6
      cases w with
      | true => exact ⟨a3, a4⟩
      | false => exact ⟨a5, a6⟩
    · exact hb
  · intro c hc h
    replace h : isCellB S (nI c) = true := h
    show ranF M w 64 c = dampF S (bif w then 5 else -1) 64 c - 10
    unfold ranF dampF
    rw [if_pos hc, if_pos ⟨hc, h⟩, show M 3 c = _ from r.2.2.2.1 10 c hc h]
    have hb := r.1 9 c hc
    obtain ⟨a1, a2, -⟩ := dcl_ok (gN (S 1 c)) (by have := hb.2; omega)
    rw [← hb.1] at a1 a2
    cases w with
    | true => exact a1
    | false => exact a2
theorem RW.rain (r : RW S L M) : RW (allDampF (wetS S) (bif wetB S then 5 else -1)) L (ranM M) := by
  have e1 : M 0 13 = S 0 21 := r.2.2.2.1 7
  have e2 : M 1 346 = S 0 20 := r.2.2.1 1
  have e4 : M 0 4 = S 0 18 := r.2.2.2.1 5
  have eb : wetM M = wetB S := by unfold wetM wetB; rw [e1, e2, e4]
  have rs : RW (wetS S) L (wetMS M) := by
    unfold wetS wetMS
    rw [e1, e2]
    split
    · exact r
    · exact r.dr
  have e3 : ranF M (wetM M) 64 = ranF (wetMS M) (wetM M) 64 := by
    unfold ranF
    rw [wetMS_o M (by decide)]
  unfold ranM
  rw [e3, eb]
  exact rs.wet _
/-! the end -/
theorem RW.frz (r : RW S L M) {f : Int32} (hf : Bd 1 f) : RW (up2 (up2 S 0 19 f) 0 20 0) L (up2 (up2 M 0 16 f) 1 346 0) := by
  have hi : Hi S (up2 (up2 S 0 19 f) 0 20 0) := fun o ho => by rw [up2_n (by omega), up2_n (by omega)]
  have hN : ∀ j, 256 ≤ j → j < 346 → up2 (up2 M 0 16 f) 1 346 0 1 j = M 1 j := fun j _ _ => by rw [up2_s, pk_un (by omega), up2_n (by decide)]
  refine ⟨XB.of (r.1 0) (r.1 1) (r.1 2) (r.1 3) (r.1 4) ?_ (r.1 6) (r.1 7) (r.1 8) (r.1 9) (r.1 10), XN.of (r.2.1 0) ?_ (r.2.1 2) (r.2.1 3) (xn4 hi r.2.1 rfl (fun _ => rfl)) (xn5 hi r.2.1 rfl), RN.of (r.2.2.1 0) ?_ ?_ ?_ ?_ ?_ (rn6 hi r.2.2.1 (r.1 4).2 rfl hN) (rn7 hi r.2.2.1 (r.1 4).2 rfl hN) (rn8 hi r.2.2.1 (r.1 4).2 rfl hN) (rn9 hi r.2.2.1 (r.1 4).2 rfl hN) (rn10 r.2.2.1 rfl hN), RB.of (r.2.2.2.1 0) (r.2.2.2.1 1) (r.2.2.2.1 2) (r.2.2.2.1 3) (r.2.2.2.1 4) (r.2.2.2.1 5) ?_ (r.2.2.2.1 7) (r.2.2.2.1 8) (r.2.2.2.1 9) (r.2.2.2.1 10) (r.2.2.2.1 11) (rb12 hi r.2.2.2.1 rfl rfl), r.2.2.2.2.chg rfl rfl rfl rfl rfl rfl⟩
  · exact hf
  · show Bd 99 (0 : Int32)
    exact bd_nI (n := 0) (by decide) (by decide)
  · show up2 (up2 M 0 16 f) 1 346 0 1 346 = 0
    rw [up2_s, pk_us]
  · intro c hc
    show up2 (up2 M 0 16 f) 1 346 0 1 (c) = _
    rw [up2_s, pk_un (by omega)]; exact r.2.2.1 2 c hc
  · intro c hc h
    show up2 (up2 M 0 16 f) 1 346 0 1 (64 + c) = _
    rw [up2_s, pk_un (by omega)]; exact r.2.2.1 3 c hc h
  · intro c hc h
    show up2 (up2 M 0 16 f) 1 346 0 1 (128 + c) = _
    rw [up2_s, pk_un (by omega)]; exact r.2.2.1 4 c hc h
  · intro c hc h
    show up2 (up2 M 0 16 f) 1 346 0 1 (192 + c) = _
    rw [up2_s, pk_un (by omega)]; exact r.2.2.1 5 c hc h
  · rfl
theorem sickF_ap (S : SS) : ∀ (m o k : Nat), sickF S m o k = if k = 2 ∧ 113 ≤ o ∧ o < 113 + 2 * m ∧ (o - 113) % 2 = 0 then maxI 0 (S o 2 - 1) else S o k
  | 0, o, k => by
    rw [if_neg (by omega)]; rfl
  | m + 1, o, k => by
    have ih := sickF_ap S m
    unfold sickF
    rw [up2_ap, ih, ih]
    by_cases e : o = 113 + 2 * m ∧ k = 2
    · rw [if_pos e, if_neg (by omega), if_pos (by omega), e.1]
    · rw [if_neg e]
      by_cases q : k = 2 ∧ 113 ≤ o ∧ o < 113 + 2 * m ∧ (o - 113) % 2 = 0
      · rw [if_pos q, if_pos (by omega)]
      · rw [if_neg q, if_neg (by omega)]
theorem sick_ok : ∀ s, s < 100 → (if nI s ≤ 0 then nI s else nI s - 1) = maxI 0 (nI s - 1) ∧ maxI 0 (nI s - 1) = nI (gN (maxI 0 (nI s - 1))) ∧ gN (maxI 0 (nI s - 1)) ≤ 99 := by decide +kernel
theorem RW.sick (r : RW S L M) {m : Nat} (hm0 : S 0 16 = nI m) (hm6 : m ≤ 6) : RW (sickF S m) L (setF M 1 (skF M m)) := by
  have hm : gN (S 0 16) = m := by rw [hm0]; exact gN_nI (by omega)
  have e0 : ∀ o, o < 113 → sickF S m o = S o := fun o ho => sickF_lo S m o ho
  have ag : ∀ k, sickF S m 0 k = S 0 k := fun k => by rw [e0 0 (by decide)]
  have ec : ∀ c, isCellB (sickF S m) c = isCellB S c := fun c => by unfold isCellB; rw [ag, ag]
  have sk : ∀ j, ¬ (262 ≤ j ∧ j < 262 + m) → skF M m j = M 1 j := fun j hj => by unfold skF; rw [if_neg hj]
  refine ⟨XB.of ?_ ?_ ?_ ?_ ?_ ?_ ?_ ?_ ?_ ?_ ?_, XN.of ?_ ?_ ?_ ?_ ?_ ?_, RN.of ?_ ?_ ?_ ?_ ?_ ?_ ?_ ?_ ?_ ?_ ?_, RB.of ?_ ?_ ?_ ?_ ?_ ?_ ?_ ?_ ?_ ?_ ?_ ?_ ?_, r.2.2.2.2.chg rfl rfl rfl rfl rfl rfl⟩
  · show Bd 8 (sickF S m 0 12) ∧ 3 ≤ gN (sickF S m 0 12)
    rw [ag]; exact r.1 0
  · show Bd 8 (sickF S m 0 13) ∧ 3 ≤ gN (sickF S m 0 13)
    rw [ag]; exact r.1 1
  · show Bd 9999 (sickF S m 0 14)
    rw [ag]; exact r.1 2
  · show Bd 12 (sickF S m 0 15)
    rw [ag]; exact r.1 3
  · show Bd 6 (sickF S m 0 16)
    rw [ag]; exact r.1 4
  · show Bd 1 (sickF S m 0 19)
    rw [ag]; exact r.1 5
  · show Bd 1000 (sickF S m 0 21)
    rw [ag]; exact r.1 6
  · show Bd 1000 (sickF S m 0 22)
    rw [ag]; exact r.1 7
  · show Bd 1000 (sickF S m 0 23)
    rw [ag]; exact r.1 8
  · intro c hc
    rw [e0 1 (by decide)]; exact r.1 9 c hc
  · intro k hk
    rw [ag] at hk
    rw [ag, e0 7 (by decide), e0 8 (by decide), e0 9 (by decide)]; exact r.1 10 k hk
  · show Bd 100 (sickF S m 0 17)
    rw [ag]; exact r.2.1 0
  · show Bd 99 (sickF S m 0 20)
    rw [ag]; exact r.2.1 1
  · intro c hc
    rw [e0 2 (by decide), ag, ec]; exact r.2.1 2 c hc
  · intro c hc
    rw [e0 2 (by decide), e0 3 (by decide)]; exact r.2.1 3 c hc
  · intro p hp
    rw [ag, hm] at hp
    rw [ec, sickF_ap, if_neg (by omega)]; exact r.2.1 4 p (by omega)
  · intro p hp
    rw [ag, hm] at hp
    have hb : Bd 99 (S (113 + 2 * p) 2) := r.2.1 5 p (by omega)
    rw [sickF_ap, if_pos (by omega), hb.1]
    exact (sick_ok _ (by have := hb.2; omega)).2
  · show skF M m 347 = sickF S m 0 17
    rw [ag, sk 347 (by omega)]; exact r.2.2.1 0
  · show skF M m 346 = sickF S m 0 20
    rw [ag, sk 346 (by omega)]; exact r.2.2.1 1
  · intro c hc
    show skF M m c = _
    rw [e0 2 (by decide), sk c (by omega)]; exact r.2.2.1 2 c hc
  · intro c hc h
    show skF M m (64 + c) = _
    rw [e0 2 (by decide)] at h
    rw [e0 3 (by decide), sk _ (by omega)]; exact r.2.2.1 3 c hc h
  · intro c hc h
    show skF M m (128 + c) = _
    rw [e0 2 (by decide)] at h
    rw [e0 4 (by decide), sk _ (by omega)]; exact r.2.2.1 4 c hc h
  · intro c hc h
    show skF M m (192 + c) = _
    rw [e0 2 (by decide)] at h
    rw [e0 5 (by decide), sk _ (by omega)]; exact r.2.2.1 5 c hc h
  · intro p hp
    rw [ag, hm] at hp
    show skF M m (256 + p) = _
    rw [sk _ (by omega), sickF_ap, if_neg (by omega)]; exact r.2.2.1 6 p (by omega)
  · intro p hp
    rw [ag, hm] at hp
    show skF M m (262 + p) = _
    have hb : Bd 99 (S (113 + 2 * p) 2) := r.2.1 5 p (by omega)
    have e := r.2.2.1 7 p (by omega)
    replace e : M 1 (262 + p) = S (113 + 2 * p) 2 := e
    rw [sickF_ap, if_pos (by omega)]
    unfold skF
    rw [if_pos (by omega), e, hb.1]
    exact (sick_ok _ (by have := hb.2; omega)).1
  · intro p hp
    rw [ag, hm] at hp
    show skF M m (268 + p) = _
    rw [sk _ (by omega), sickF_ap, if_neg (by omega)]; exact r.2.2.1 8 p (by omega)
  · intro p w hp hw
    rw [ag, hm] at hp
    show skF M m (274 + 12 * p + w) = _
    rw [sk _ (by omega), sickF_ap, if_neg (by omega)]; exact r.2.2.1 9 p w (by omega) hw
  · intro p h1 h2
    rw [ag, hm] at h1
    obtain ⟨a1, a2, a3⟩ := r.2.2.1 10 p (by omega) h2
    refine ⟨?_, ?_, fun w hw => ?_⟩
    · show skF M m (262 + p) = 0
      rw [sk _ (by omega)]; exact a1
    · show skF M m (268 + p) = 0
      rw [sk _ (by omega)]; exact a2
    · show skF M m (274 + 12 * p + w) = 0
      rw [sk _ (by omega)]; exact a3 w hw
  · show M 0 5 = sickF S m 0 12
    rw [ag]; exact r.2.2.2.1 0
  · show M 0 6 = sickF S m 0 13
    rw [ag]; exact r.2.2.2.1 1
  · show M 0 17 = sickF S m 0 14
    rw [ag]; exact r.2.2.2.1 2
  · show M 0 8 = sickF S m 0 15
    rw [ag]; exact r.2.2.2.1 3
  · show M 0 12 = sickF S m 0 16
    rw [ag]; exact r.2.2.2.1 4
  · show M 0 4 = sickF S m 0 18
    rw [ag]; exact r.2.2.2.1 5
  · show M 0 16 = sickF S m 0 19
    rw [ag]; exact r.2.2.2.1 6
  · show M 0 13 = sickF S m 0 21
    rw [ag]; exact r.2.2.2.1 7
  · show M 0 14 = sickF S m 0 22
    rw [ag]; exact r.2.2.2.1 8
  · show M 0 15 = sickF S m 0 23
    rw [ag]; exact r.2.2.2.1 9
  · intro c hc h
    rw [ec] at h
    show M 3 c = _
    rw [e0 1 (by decide)]; exact r.2.2.2.1 10 c hc h
  · intro k hk
    rw [ag] at hk
    show M 4 k = _ ∧ M 5 k = _ ∧ M 6 k = _
    rw [e0 7 (by decide), e0 8 (by decide), e0 9 (by decide)]; exact r.2.2.2.1 11 k hk
  · intro i j hi hj
    rw [ag] at hi
    have := (r.2.1 0).2
    show M 7 (4 * i + j) = _
    rw [e0 (11 + i) (by omega)]; exact r.2.2.2.1 12 i j hi hj
theorem RW.day1 (r : RW S L M) (hd : gN (S 0 14) + 1 ≤ 9999) : RW (up2 S 0 14 (S 0 14 + 1)) L (up2 M 0 17 (M 0 17 + 1)) := by
  have hi : Hi S (up2 S 0 14 (S 0 14 + 1)) := fun o ho => up2_n (by omega)
  have hN : ∀ j, 256 ≤ j → j < 346 → up2 M 0 17 (M 0 17 + 1) 1 j = M 1 j := fun j _ _ => rfl
  refine ⟨XB.of (r.1 0) (r.1 1) ?_ (r.1 3) (r.1 4) (r.1 5) (r.1 6) (r.1 7) (r.1 8) (r.1 9) (r.1 10), XN.of (r.2.1 0) (r.2.1 1) (r.2.1 2) (r.2.1 3) (xn4 hi r.2.1 rfl (fun _ => rfl)) (xn5 hi r.2.1 rfl), RN.of (r.2.2.1 0) (r.2.2.1 1) (r.2.2.1 2) (r.2.2.1 3) (r.2.2.1 4) (r.2.2.1 5) (rn6 hi r.2.2.1 (r.1 4).2 rfl hN) (rn7 hi r.2.2.1 (r.1 4).2 rfl hN) (rn8 hi r.2.2.1 (r.1 4).2 rfl hN) (rn9 hi r.2.2.1 (r.1 4).2 rfl hN) (rn10 r.2.2.1 rfl hN), RB.of (r.2.2.2.1 0) (r.2.2.2.1 1) ?_ (r.2.2.2.1 3) (r.2.2.2.1 4) (r.2.2.2.1 5) (r.2.2.2.1 6) (r.2.2.2.1 7) (r.2.2.2.1 8) (r.2.2.2.1 9) (r.2.2.2.1 10) (r.2.2.2.1 11) (rb12 hi r.2.2.2.1 rfl rfl), r.2.2.2.2.chg rfl rfl rfl rfl rfl rfl⟩
  · show Bd 9999 (S 0 14 + 1)
    rw [(r.1 2).1, nI_1]
    exact bd_nI hd (by decide)
  · show M 0 17 + 1 = S 0 14 + 1
    rw [show M 0 17 = _ from r.2.2.2.1 2]
theorem RW.fin (r : RW S L M) {m : Nat} (hm0 : S 0 16 = nI m) (hm6 : m ≤ 6) (hd : gN (S 0 14) + 1 ≤ 9999) : RW (t109 S m) L (finM M m) := by
  have e1 : M 0 14 = S 0 22 := r.2.2.2.1 8
  have e4 : M 0 4 = S 0 18 := r.2.2.2.1 5
  have ef : frzEM M = frzE S := by unfold frzEM frzE; rw [e1, e4]
  have hf : Bd 1 (frzE S) := by
    unfold frzE
    split
    · exact bd_nI (n := 0) (by decide) (by decide)
    · split
      · exact bd_nI (n := 0) (by decide) (by decide)
      · exact bd_nI (n := 1) (by decide) (by decide)
  have rs : RW (frzS S) L (frzM M) ∧ frzS S 0 16 = S 0 16 ∧ frzS S 0 14 = S 0 14 := by
    unfold frzS frzM
    rw [e1]
    split
    · exact ⟨r, rfl, rfl⟩
    · exact ⟨r.dr, rfl, rfl⟩
  obtain ⟨rs, h16, h14⟩ := rs
  have r2 := rs.frz hf
  have r3 := r2.sick (m := m) (h16.trans hm0) hm6
  have ag : ∀ (A : SS) k, sickF A m 0 k = A 0 k := fun A k => by rw [sickF_lo A m 0 (by decide)]
  have r4 := r3.day1 (by rw [ag]; show gN (frzS S 0 14) + 1 ≤ 9999; rw [h14]; exact hd)
  unfold t109 t136 t146 finM
  rw [ef]
  exact r4
theorem RW.day (r : RW S L M) {m : Nat} {v x : Int32} {M' : SS} (hm0 : S 0 16 = nI m) (hm6 : m ≤ 6) (hd : gN (S 0 14) + 1 ≤ 9999) (hw : RG S (thkF M) 0 (M 0 16)) (g : EndR L m M v M') : RW (endS (up2 (allGrowF S L) 0 24 x) m) L M' ∧ v = eatE (up2 (allGrowF S L) 0 24 x) := by
  obtain ⟨S1, g1, g2, rfl, rfl⟩ := g
  have r1 := r.grow2 x g1 (fun c hc h => by
    have hcap : capM M c = true := by have := cap_M r hc; rw [h] at this; exact this.symm
    rw [g2 c hc hcap, grw_eq hw r.2.2.2.2.wf hc hcap]
    rfl)
  obtain ⟨r2, e2⟩ := r1.eat
  have k : ∀ A : SS, eatS A 0 16 = A 0 16 ∧ eatS A 0 14 = A 0 14 := fun A => by
    unfold eatS
    split
    · exact ⟨rfl, rfl⟩
    · split
      · exact ⟨rfl, rfl⟩
      · split
        · exact ⟨rfl, rfl⟩
        · exact ⟨rfl, rfl⟩
  have k2 : ∀ A : SS, wetS A 0 16 = A 0 16 ∧ wetS A 0 14 = A 0 14 := fun A => by
    unfold wetS
    split
    · exact ⟨rfl, rfl⟩
    · exact ⟨rfl, rfl⟩
  have r3 := r2.rain
  have r4 := r3.fin (m := m) (by show wetS _ 0 16 = _; rw [(k2 _).1, (k _).1]; exact hm0) hm6 (by show gN (wetS _ 0 14) + 1 ≤ _; rw [(k2 _).2, (k _).2]; exact hd)
  exact ⟨r4, e2.symm⟩
end DY
