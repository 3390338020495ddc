set_option maxRecDepth 100000
/-! CALL BY CALL: acts on caps, what is undone, images -/
section AB
variable {W W' : XW} {M M' : SS} {u : Nat} {v v2 q w n x : Int32}
theorem min99 (x : Int32) : minI 99 x = if 99 < x then 99 else x := by
  unfold minI
  by_cases h : x < 99
  · rw [if_pos h, if_neg]
    rw [Int32.not_lt]; exact Int32.le_of_lt h
  · rw [if_neg h]
    by_cases h2 : 99 < x
    · rw [if_pos h2]
    · rw [if_neg h2]
      exact Int32.le_antisymm (Int32.not_lt.mp h) (Int32.not_lt.mp h2)
theorem sick_bd {a p s : Int32} (ha : Bd 99 a) (hp : Bd 9 p) (hs : Bd 999 s) : Bd 99 (minI 99 (a + (p * s + 9) / 10)) := by
  have e : a + (p * s + 9) / 10 = nI (gN a + (gN p * gN s + 9) / 10) := by
    have h1 := ha.2
    have h2 := hp.2
    have h3 := hs.2
    have h4 : gN p * gN s ≤ 9 * 999 := Nat.mul_le_mul h2 h3
    have e1 : p * s + 9 = nI (gN p * gN s + 9) := by
      rw [show p * s = nI (gN p) * nI (gN s) from by rw [← hp.1, ← hs.1], pk_mul, show (9 : Int32) = nI 9 from rfl, nI_add]
    have e2 : nI (gN p * gN s + 9) / 10 = nI ((gN p * gN s + 9) / 10) := pk_div (d := 10) (by omega) (by decide) (by decide)
    rw [e1, e2]
    rw [show a + nI ((gN p * gN s + 9) / 10) = nI (gN a) + nI ((gN p * gN s + 9) / 10) from by rw [← ha.1], nI_add]
  rw [e]
  generalize hX : gN a + (gN p * gN s + 9) / 10 = X
  have hX2 : X < 2 ^ 31 := by
    have h1 := ha.2
    have h2 := hp.2
    have h3 := hs.2
    have h4 : gN p * gN s ≤ 9 * 999 := Nat.mul_le_mul h2 h3
    omega
  unfold minI
  by_cases h : nI X < 99
  · rw [if_pos h]
    have := (nI_ltI (b := 99) hX2 (by decide)).mp h
    exact bd_nI (by omega) (by decide)
  · rw [if_neg h]; exact bd_nI (n := 99) (by decide) (by decide)
theorem half_bd : ∀ s, s < 100 → nI s / 2 = nI (gN (nI s / 2)) ∧ gN (nI s / 2) ≤ 99 := by decide +kernel
theorem Bd.half {x : Int32} (h : Bd 99 x) : Bd 99 (x / 2) := by
  have h9 := half_bd (gN x) (by have := h.2; omega)
  rw [← h.1] at h9
  exact h9
theorem j_act (r : RelX W M) (hu : M 0 3 = nI u) (hu2 : u ≤ 12) (p1 : ∀ k, k < 12 → W.pi k < 12) (p2 : ∀ k k', k < 12 → k' < 12 → W.pi k = W.pi k' → k = k') (hx : (acC (tl M) q w ∧ v = 1 ∧ W' = acX W u q w (gN (tl M 1 (256 + gN q))) (gN (W.S 0 2 (gN (tl M 1 (256 + gN q)))))) ∨ (¬ acC (tl M) q w ∧ v = 0 ∧ W' = W)) (hk : (acC (tl M) q w ∧ v2 = 1 ∧ M' = acF (tl M) u q w) ∨ (¬ acC (tl M) q w ∧ v2 = 0 ∧ M' = tl M)) : v = v2 ∧ RelX W' M' := by
  rcases hx with ⟨h1, rfl, rfl⟩ | ⟨h1, rfl, rfl⟩
  · rcases hk with ⟨h2, rfl, rfl⟩ | ⟨h2, rfl, rfl⟩
    · refine ⟨rfl, ?_⟩
      obtain ⟨hps, hw3, hc⟩ := h1
      obtain ⟨k, hk, hk6, rfl, hg⟩ := r.tl.pp (by rw [← r.tl.ps]; exact hps)
      have ec := r.tl.pc hk
      obtain ⟨hcb, hcc⟩ := r.tl.pcell hk
      have rk := r.tl.kept hu hu2 p1 p2
      have e0 : (kpX W u).S 0 = W.S 0 := kpX_S (by decide)
      have hk2 : k < gN ((kpX W u).S 0 0 16) := by rw [e0]; exact hk
      have hc63 : gN (W.S 0 (113 + 2 * k) 1) < 64 := by have := hcb.2; omega
      have mk : ∀ j, kaF (tl M) u 1 j = tl M 1 j := fun j => rfl
      rw [hg, ec] at hc ⊢
      unfold acX acF
      rw [hg, ec]
      by_cases w0 : w = 0
      · rw [if_pos w0] at hc
        rw [if_pos w0, if_pos w0]
        have e346 : tl M 1 346 = W.S 0 0 20 := r.tl.w.2.2.1 1
        have hb := r.w.2.1 1
        rw [e346] at hc ⊢
        have hl : gN (W.S 0 0 20) < 99 := by
          have h8 := hb.2
          rcases Nat.lt_or_ge (gN (W.S 0 0 20)) 99 with q | q
          · exact q
          · exact absurd (by show W.S 0 0 20 = 99; rw [hb.1, show gN (W.S 0 0 20) = 99 from by omega]; rfl) hc
        have hb2 : Bd 99 (W.S 0 0 20 + 1) := by rw [hb.1, nI_1]; exact bd_nI (by omega) (by decide)
        exact rk.upS (rk.w.ask hb2) m_up1 rfl rfl (fun _ => rfl) (Nat.le_refl _)
      · rw [if_neg w0] at hc
        rw [if_neg w0, if_neg w0]
        have hcap : capB (W.S 0) (nI (gN (W.S 0 (113 + 2 * k) 1))) = true := by
          cases hq : capB (W.S 0) (nI (gN (W.S 0 (113 + 2 * k) 1))) with
          | true => rfl
          | false => exact absurd ((cap_f r.tl.w hc63).mp hq) hc
        obtain ⟨hw11, hwl⟩ := cap_word r.tl.w hc63 hcap
        have hw12 : gN (W.S 0 2 (gN (W.S 0 (113 + 2 * k) 1))) < 12 := by have := hw11.2; omega
        have ewd : tl M 1 (gN (W.S 0 (113 + 2 * k) 1)) - 1 = W.S 0 2 (gN (W.S 0 (113 + 2 * k) 1)) := r.tl.wd1 hc63
        have esz : tl M 1 (64 + gN (W.S 0 (113 + 2 * k) 1)) = W.S 0 3 (gN (W.S 0 (113 + 2 * k) 1)) := r.tl.sz hc63 hcap
        generalize hcN : gN (W.S 0 (113 + 2 * k) 1) = c at *
        rw [ewd]
        generalize hdN : gN (W.S 0 2 c) = d at *
        by_cases w2 : w = 2
        · have w1 : ¬ w = 1 := by rw [w2]; decide
          rw [if_pos w2, if_neg w1]
          obtain ⟨k4, k5, k6⟩ := r.tl.w.2.2.2.1 11 d hwl
          obtain ⟨b7, b8, b9⟩ := r.w.1 10 d hwl
          have hszb : Bd 999 (W.S 0 3 c) := r.w.2.1 3 c hc63 (cap_ne r.w hc63 hcap)
          have hskb : Bd 99 (W.S 0 (113 + 2 * k) 2) := r.w.2.1 5 k hk
          have hsb := sick_bd hskb b8 hszb
          have es1 : skX (kpX W u) k c d = minI 99 (W.S 0 (113 + 2 * k) 2 + (W.S 0 8 d * W.S 0 3 c + 9) / 10) := by unfold skX; rw [e0]
          have es2 : sk1 (tl M) k c d = minI 99 (W.S 0 (113 + 2 * k) 2 + (W.S 0 8 d * W.S 0 3 c + 9) / 10) := by
            unfold sk1
            rw [show tl M 1 (262 + k) = W.S 0 (113 + 2 * k) 2 from r.tl.pk hk, k5, esz, min99]
          have s1 := rk.u1 (o := 113 + 2 * k) (i := 2) (j := 262 + k) (x := minI 99 (W.S 0 (113 + 2 * k) 2 + (W.S 0 8 d * W.S 0 3 c + 9) / 10)) (by omega) (rk.w.ps hk2 hsb)
          have s1w := s1.w
          unfold eaX sk2
          rw [es1, es2, e0]
          have ecu : tl M 6 d = W.S 0 9 d := k6
          have ep : ¬ W.S 0 9 d = -1 → tl M 5 (gN (tl M 6 d)) = W.S 0 8 (gN (W.S 0 9 d)) := fun hne => by
            rw [ecu]
            rcases b9 with b9 | ⟨-, b9⟩
            · exact absurd b9 hne
            · exact (r.tl.w.2.2.2.1 11 _ b9).2.1
          by_cases hcu : ¬ W.S 0 9 d = -1 ∧ 0 < W.S 0 8 (gN (W.S 0 9 d))
          · rw [if_pos hcu, if_pos ⟨by rw [ecu]; exact hcu.1, by rw [ep hcu.1]; exact hcu.2⟩]
            have hk3 : k < gN (((kpX W u).up 0 (113 + 2 * k) 2 (minI 99 (W.S 0 (113 + 2 * k) 2 + (W.S 0 8 d * W.S 0 3 c + 9) / 10))).S 0 0 16) := by rw [up_S0, up2_n (by omega)]; exact hk2
            have s2 := s1.u1 (o := 113 + 2 * k) (i := 2) (j := 262 + k) (x := minI 99 (W.S 0 (113 + 2 * k) 2 + (W.S 0 8 d * W.S 0 3 c + 9) / 10) / 2) (by omega) (s1w.ps hk3 hsb.half)
            rw [up2_2] at s2
            exact s2.pick hc63
          · rw [if_neg hcu, if_neg (fun z => hcu ⟨by rw [← ecu]; exact z.1, by rw [← ep (by rw [← ecu]; exact z.1)]; exact z.2⟩)]
            exact s1.pick hc63
        · have w1 : w = 1 := by
            obtain ⟨j, -, hj, rfl⟩ := isInB_nI (a := 0) (b := 2) (by decide) hw3 (by decide)
            match j, hj with
            | 0, _ => exact absurd rfl w0
            | 1, _ => rfl
            | 2, _ => exact absurd rfl w2
          rw [if_neg w2, if_pos w1]
          unfold pi2 pi1
          have s1 := rk.u1 (o := 113 + 2 * k + 1) (i := d) (j := 274 + 12 * k + d) (x := W.S 0 (113 + 2 * k + 1) d + 1) (by omega) (rk.w.pb hk2 hw12)
          have hk3 : k < gN (((kpX W u).up 0 (113 + 2 * k + 1) d (W.S 0 (113 + 2 * k + 1) d + 1)).S 0 0 16) := by rw [up_S0, up2_n (by omega)]; exact hk2
          have s2 := s1.u1 (o := 113 + 2 * k) (i := 3) (j := 268 + k) (x := W.S 0 (113 + 2 * k) 3 + W.S 0 3 c) (by omega) (s1.w.pz hk3)
          rw [mk, show tl M 1 (274 + 12 * k + d) = W.S 0 (113 + 2 * k + 1) d from r.tl.pb hk hw12]
          have e1 : up2 (kaF (tl M) u) 1 (274 + 12 * k + d) (W.S 0 (113 + 2 * k + 1) d + 1) 1 (268 + k) = W.S 0 (113 + 2 * k) 3 := by
            rw [up2_s, pk_un (by omega)]
            exact r.tl.pz hk
          have e2 : up2 (kaF (tl M) u) 1 (274 + 12 * k + d) (W.S 0 (113 + 2 * k + 1) d + 1) 1 (64 + c) = W.S 0 3 c := by
            rw [up2_s, pk_un (by omega)]
            exact esz
          rw [e1, e2]
          exact s2.pick hc63
    · exact absurd h1 h2
  · rcases hk with ⟨h2, rfl, rfl⟩ | ⟨h2, rfl, rfl⟩
    · exact absurd h2 h1
    · exact ⟨rfl, r.tl⟩
/-! undo -/
theorem RW.undo {S T M : SS} {L : List Line9} {N : Nat → Int32} (r : RW S L M) (h1 : RN T (gN (S 0 16)) N) (h2 : XN T S) (hl : gN (T 0 17) ≤ gN (S 0 17)) : RW (movF S T (gN (S 0 16))) L (setF M 1 (cpy 348 (M 1) N)) := by
  have f0 : ∀ k, k ≠ 17 → k ≠ 20 → movF S T (gN (S 0 16)) 0 k = S 0 k := fun k a b => by rw [movF_f, if_neg a, if_neg b]
  have ec : ∀ c, isCellB (movF S T (gN (S 0 16))) c = isCellB S c := fun c => by unfold isCellB; rw [f0 12 (by decide) (by decide), f0 13 (by decide) (by decide)]
  have lo : ∀ o, (o = 1 ∨ (6 ≤ o ∧ o < 113)) → movF S T (gN (S 0 16)) o = S o := fun o ho => movF_m ho
  have n1 : ∀ j, j < 348 → setF M 1 (cpy 348 (M 1) N) 1 j = N j := fun j hj => by rw [setF_s, cpy_lt hj]
  have pp : ∀ p, p < gN (S 0 16) → (movF S T (gN (S 0 16)) (113 + 2 * p) 1 = T (113 + 2 * p) 1 ∧ movF S T (gN (S 0 16)) (113 + 2 * p) 2 = T (113 + 2 * p) 2 ∧ movF S T (gN (S 0 16)) (113 + 2 * p) 3 = T (113 + 2 * p) 3) ∧ ∀ w, w < 12 → movF S T (gN (S 0 16)) (113 + 2 * p + 1) w = T (113 + 2 * p + 1) w := fun p hp => by
    rw [movF_h (by omega), movF_h (by omega)]
    exact persF_p hp
  have hm : gN (S 0 16) ≤ 6 := (r.1 4).2
  have e17 : movF S T (gN (S 0 16)) 0 17 = T 0 17 := by rw [movF_f]; rfl
  have e20 : movF S T (gN (S 0 16)) 0 20 = T 0 20 := by rw [movF_f]; rfl
  refine ⟨XB.of ?_ ?_ ?_ ?_ ?_ ?_ ?_ ?_ ?_ ?_ ?_, XN.of ?_ ?_ ?_ ?_ ?_ ?_, RN.of ?_ ?_ ?_ ?_ ?_ ?_ ?_ ?_ ?_ ?_ ?_, RB.of ?_ ?_ ?_ ?_ ?_ ?_ ?_ ?_ ?_ ?_ ?_ ?_ ?_, r.2.2.2.2.chg rfl rfl rfl rfl rfl rfl⟩
  · show Bd 8 (movF S T (gN (S 0 16)) 0 12) ∧ 3 ≤ gN (movF S T (gN (S 0 16)) 0 12)
    rw [f0 12 (by decide) (by decide)]; exact r.1 0
  · show Bd 8 (movF S T (gN (S 0 16)) 0 13) ∧ 3 ≤ gN (movF S T (gN (S 0 16)) 0 13)
    rw [f0 13 (by decide) (by decide)]; exact r.1 1
  · show Bd 9999 (movF S T (gN (S 0 16)) 0 14)
    rw [f0 14 (by decide) (by decide)]; exact r.1 2
  · show Bd 12 (movF S T (gN (S 0 16)) 0 15)
    rw [f0 15 (by decide) (by decide)]; exact r.1 3
  · show Bd 6 (movF S T (gN (S 0 16)) 0 16)
    rw [f0 16 (by decide) (by decide)]; exact r.1 4
  · show Bd 1 (movF S T (gN (S 0 16)) 0 19)
    rw [f0 19 (by decide) (by decide)]; exact r.1 5
  · show Bd 1000 (movF S T (gN (S 0 16)) 0 21)
    rw [f0 21 (by decide) (by decide)]; exact r.1 6
  · show Bd 1000 (movF S T (gN (S 0 16)) 0 22)
    rw [f0 22 (by decide) (by decide)]; exact r.1 7
  · show Bd 1000 (movF S T (gN (S 0 16)) 0 23)
    rw [f0 23 (by decide) (by decide)]; exact r.1 8
  · intro c hc
    rw [lo 1 (by omega)]; exact r.1 9 c hc
  · intro j hj
    rw [f0 15 (by decide) (by decide)] at hj ⊢
    rw [lo 7 (by omega), lo 8 (by omega), lo 9 (by omega)]; exact r.1 10 j hj
  · show Bd 100 (movF S T (gN (S 0 16)) 0 17)
    rw [e17]; exact h2 0
  · show Bd 99 (movF S T (gN (S 0 16)) 0 20)
    rw [e20]; exact h2 1
  · intro c hc
    rw [(movF_c hc).1, f0 15 (by decide) (by decide), ec]; exact h2 2 c hc
  · intro c hc
    rw [(movF_c hc).1, (movF_c hc).2.1]; exact h2 3 c hc
  · intro p hp
    rw [f0 16 (by decide) (by decide)] at hp
    rw [(pp p hp).1.1, ec]; exact h2 4 p hp
  · intro p hp
    rw [f0 16 (by decide) (by decide)] at hp
    rw [(pp p hp).1.2.1]; exact h2 5 p hp
  · show setF M 1 (cpy 348 (M 1) N) 1 347 = movF S T (gN (S 0 16)) 0 17
    rw [n1 _ (by omega), e17]; exact h1 0
  · show setF M 1 (cpy 348 (M 1) N) 1 346 = movF S T (gN (S 0 16)) 0 20
    rw [n1 _ (by omega), e20]; exact h1 1
  · intro c hc
    rw [n1 _ (by omega), (movF_c hc).1]; exact h1 2 c hc
  · intro c hc
    rw [n1 _ (by omega), (movF_c hc).1, (movF_c hc).2.1]; exact h1 3 c hc
  · intro c hc
    rw [n1 _ (by omega), (movF_c hc).1, (movF_c hc).2.2.1]; exact h1 4 c hc
  · intro c hc
    rw [n1 _ (by omega), (movF_c hc).1, (movF_c hc).2.2.2]; exact h1 5 c hc
  · intro p hp
    rw [f0 16 (by decide) (by decide)] at hp
    rw [n1 _ (by omega), (pp p hp).1.1]; exact h1 6 p hp
  · intro p hp
    rw [f0 16 (by decide) (by decide)] at hp
    rw [n1 _ (by omega), (pp p hp).1.2.1]; exact h1 7 p hp
  · intro p hp
    rw [f0 16 (by decide) (by decide)] at hp
    rw [n1 _ (by omega), (pp p hp).1.2.2]; exact h1 8 p hp
  · intro p w hp hw
    rw [f0 16 (by decide) (by decide)] at hp
    rw [n1 _ (by omega), (pp p hp).2 w hw]; exact h1 9 p w hp hw
  · intro p q1 q2
    rw [f0 16 (by decide) (by decide)] at q1
    obtain ⟨a1, a2, a3⟩ := h1 10 p q1 q2
    refine ⟨?_, ?_, fun w hw => ?_⟩
    · rw [n1 _ (by omega)]; exact a1
    · rw [n1 _ (by omega)]; exact a2
    · rw [n1 _ (by omega)]; exact a3 w hw
  · show M 0 5 = movF S T (gN (S 0 16)) 0 12
    rw [f0 12 (by decide) (by decide)]; exact r.2.2.2.1 0
  · show M 0 6 = movF S T (gN (S 0 16)) 0 13
    rw [f0 13 (by decide) (by decide)]; exact r.2.2.2.1 1
  · show M 0 17 = movF S T (gN (S 0 16)) 0 14
    rw [f0 14 (by decide) (by decide)]; exact r.2.2.2.1 2
  · show M 0 8 = movF S T (gN (S 0 16)) 0 15
    rw [f0 15 (by decide) (by decide)]; exact r.2.2.2.1 3
  · show M 0 12 = movF S T (gN (S 0 16)) 0 16
    rw [f0 16 (by decide) (by decide)]; exact r.2.2.2.1 4
  · show M 0 4 = movF S T (gN (S 0 16)) 0 18
    rw [f0 18 (by decide) (by decide)]; exact r.2.2.2.1 5
  · show M 0 16 = movF S T (gN (S 0 16)) 0 19
    rw [f0 19 (by decide) (by decide)]; exact r.2.2.2.1 6
  · show M 0 13 = movF S T (gN (S 0 16)) 0 21
    rw [f0 21 (by decide) (by decide)]; exact r.2.2.2.1 7
  · show M 0 14 = movF S T (gN (S 0 16)) 0 22
    rw [f0 22 (by decide) (by decide)]; exact r.2.2.2.1 8
  · show M 0 15 = movF S T (gN (S 0 16)) 0 23
    rw [f0 23 (by decide) (by decide)]; exact r.2.2.2.1 9
  · intro d hd h
    rw [ec] at h
    show M 3 d = _
    rw [lo 1 (by omega)]; exact r.2.2.2.1 10 d hd h
  · intro j hj
    rw [f0 15 (by decide) (by decide)] at hj
    show M 4 j = _ ∧ M 5 j = _ ∧ M 6 j = _
    rw [lo 7 (by omega), lo 8 (by omega), lo 9 (by omega)]; exact r.2.2.2.1 11 j hj
  · intro i j hq hj
    rw [e17] at hq
    have := (r.2.1 0).2
    show M 7 (4 * i + j) = _
    rw [lo (11 + i) (by omega)]; exact r.2.2.2.1 12 i j (by omega) hj
theorem j_undo (r : RelX W M) (hu : M 0 3 = nI u) (hu2 : u ≤ 12) (hx : (u = 0 ∧ v = 0 ∧ W' = W) ∨ (¬ u = 0 ∧ v = 1 ∧ W' = unX W (u - 1))) (hk : (u = 0 ∧ v2 = 0 ∧ M' = tl M) ∨ (¬ u = 0 ∧ v2 = 1 ∧ M' = unF (tl M) (u - 1))) : v = v2 ∧ RelX W' M' := by
  rcases hx with ⟨h1, rfl, rfl⟩ | ⟨h1, rfl, rfl⟩
  · rcases hk with ⟨h2, rfl, rfl⟩ | ⟨h2, rfl, rfl⟩
    · exact ⟨rfl, r.tl⟩
    · exact absurd h1 h2
  · rcases hk with ⟨h2, rfl, rfl⟩ | ⟨h2, rfl, rfl⟩
    · exact absurd h2 h1
    · refine ⟨rfl, ?_⟩
      obtain ⟨u', a1, a2, a3, a4, a5, a6⟩ := r.tl.u
      obtain rfl : u' = u := (nI_eq (by omega) (by omega)).mp (a3.symm.trans hu)
      have hul : u' - 1 < u' := by omega
      obtain ⟨b1, b2⟩ := a4 (u' - 1) hul
      have rw0 := r.tl.w.undo b1 b2 (a5 (u' - 1) hul)
      have e17 : movF (W.S 0) (W.S (3 + W.pi (u' - 1))) (gN (W.S 0 0 16)) 0 17 = W.S (3 + W.pi (u' - 1)) 0 17 := by rw [movF_f]; rfl
      have f0 : ∀ k, k ≠ 17 → k ≠ 20 → movF (W.S 0) (W.S (3 + W.pi (u' - 1))) (gN (W.S 0 0 16)) 0 k = W.S 0 0 k := fun k a b => by rw [movF_f, if_neg a, if_neg b]
      have ec : ∀ c, isCellB (movF (W.S 0) (W.S (3 + W.pi (u' - 1))) (gN (W.S 0 0 16))) c = isCellB (W.S 0) c := fun c => by unfold isCellB; rw [f0 12 (by decide) (by decide), f0 13 (by decide) (by decide)]
      refine ⟨rw0.up np3, ⟨u' - 1, by omega, rfl, rfl, fun k hk => ?_, fun k hk => ?_, fun k k' hk hk' => ?_⟩, r.t, r.i, r.e⟩
      · have eS : (unX W (u' - 1)).S (3 + W.pi k) = W.S (3 + W.pi k) := upN_n (by omega)
        show RU ((unX W (u' - 1)).S (3 + W.pi k)) (movF (W.S 0) (W.S (3 + W.pi (u' - 1))) (gN (W.S 0 0 16))) (fun j => tl M 2 (348 * k + j))
        rw [eS]
        obtain ⟨c1, c2⟩ := a4 k (by omega)
        refine ⟨by rw [f0 16 (by decide) (by decide)]; exact c1, XN.of (show Bd 100 (W.S (3 + W.pi k) 0 17) from c2 0) (show Bd 99 (W.S (3 + W.pi k) 0 20) from c2 1) ?_ (show ∀ c, c < 64 → W.S (3 + W.pi k) 2 c ≠ -1 → Bd 999 (W.S (3 + W.pi k) 3 c) from c2 3) ?_ ?_⟩
        · intro c hc2
          rw [f0 15 (by decide) (by decide), ec]; exact c2 2 c hc2
        · intro p hp
          rw [f0 16 (by decide) (by decide)] at hp
          rw [ec]; exact c2 4 p hp
        · intro p hp
          rw [f0 16 (by decide) (by decide)] at hp
          exact c2 5 p hp
      · have eS : (unX W (u' - 1)).S (3 + W.pi k) = W.S (3 + W.pi k) := upN_n (by omega)
        show gN ((unX W (u' - 1)).S (3 + W.pi k) 0 17) ≤ gN (movF (W.S 0) (W.S (3 + W.pi (u' - 1))) (gN (W.S 0 0 16)) 0 17)
        rw [eS, e17]
        exact a6 k (u' - 1) (by omega) hul
      · have eS : (unX W (u' - 1)).S (3 + W.pi k) = W.S (3 + W.pi k) := upN_n (by omega)
        have eS' : (unX W (u' - 1)).S (3 + W.pi k') = W.S (3 + W.pi k') := upN_n (by omega)
        show gN ((unX W (u' - 1)).S (3 + W.pi k) 0 17) ≤ gN ((unX W (u' - 1)).S (3 + W.pi k') 0 17)
        rw [eS, eS']
        exact a6 k k' hk (by omega)
/-! images -/
theorem no_f {k : Nat} (h : fJ k = 858) (h2 : k ≠ 26) : ∀ j, j < 1707 → ¬ (0 = pO j ∧ k = pI j) := by
  intro j hj ⟨e1, e2⟩
  have h9 := ixI_p hj
  rw [← e1, ← e2] at h9
  have h8 : j = 858 := h9.symm.trans h
  rw [h8] at e2
  exact h2 e2
theorem no_o {o k : Nat} (h : ixI o k = 0) (h2 : o ≠ 1) : ∀ j, j < 1707 → ¬ (o = pO j ∧ k = pI j) := by
  intro j hj ⟨e1, e2⟩
  have h9 := ixI_p hj
  rw [← e1, ← e2, h] at h9
  rw [← h9] at e1
  exact h2 e1
theorem im0_v {t : Bool} {o k : Nat} (h : o ≠ 0 ∨ (k ≠ 48 ∧ k ≠ 47 ∧ k ≠ 46 ∧ k ≠ 0)) : im0 M t o k = M o k := by
  unfold im0 tl
  rw [up2_ap, if_neg (by omega), up2_ap, if_neg (by omega), up2_ap, if_neg (by omega), up2_ap, if_neg (by omega)]
theorem im0_47 {t : Bool} : im0 M t 0 47 = 1 := by
  unfold im0
  rw [up2_ap, if_neg (by omega), up2_ap, if_pos ⟨rfl, rfl⟩]
theorem vp_f {o k : Nat} (h : vpos o k) : (o ≠ 0 ∨ (k ≠ 48 ∧ k ≠ 47 ∧ k ≠ 46 ∧ k ≠ 0)) ∧ o ≠ 22 ∧ ¬ (o = 0 ∧ k = 48) ∧ ¬ (o = 0 ∧ k = 3) := by
  unfold vpos at h
  omega
theorem j_imT {A : SS} {n9 : Int32} (r : RelX W M) (i1 : ∀ o, o ≠ 22 → A o = im0 M true o) (i2 : ∀ j, A 22 j = if j < 1707 then im0 M true (pO j) (pI j) else im0 M true 22 j) : RelX ((W.tk 1 0).uF 9 1) (up2 A 0 48 n9) := by
  have hv : ∀ o k, vpos o k → up2 A 0 48 n9 o k = M o k := fun o k hv => by
    obtain ⟨a1, a2, a3, -⟩ := vp_f hv
    rw [up2_ap, if_neg a3, i1 o a2, im0_v a1]
  have hf : ∀ k, k ≠ 48 → k ≠ 47 → k ≠ 46 → k ≠ 0 → up2 A 0 48 n9 0 k = M 0 k := fun k a b c d => by
    rw [up2_ap, if_neg (by omega), i1 0 (by decide), im0_v (Or.inr ⟨a, b, c, d⟩)]
  have ho : ∀ o, o ≠ 0 → o ≠ 22 → up2 A 0 48 n9 o = M o := fun o a b => by
    funext k
    rw [up2_n a, i1 o b, im0_v (Or.inl a)]
  have h22 : ∀ o k, vpos o k → vwI (up2 A 0 48 n9 22) o k = M o k := fun o k hv => by
    obtain ⟨j1, j2, j3⟩ := ixI_ok hv
    unfold vwI
    rw [up2_n (by decide), i2, if_pos j1, j2, j3, im0_v (vp_f hv).1]
  have f47 : up2 A 0 48 n9 0 47 = 1 := by
    rw [up2_ap, if_neg (by omega), i1 0 (by decide), im0_47]
  generalize up2 A 0 48 n9 = M' at hv hf ho h22 f47
  refine ⟨r.w.congr hv, ?_, ?_, ?_, ?_⟩
  · exact r.u.keep rfl (hf 3 (by decide) (by decide) (by decide) (by decide)) (ho 2 (by decide) (by decide)) rfl (fun j hj => upN_n (by omega)) rfl rfl (fun _ => rfl) (Nat.le_refl _)
  · obtain ⟨t, a1, a2, a3, a4⟩ := r.t
    exact ⟨t, a1, a2, (hf 20 (by decide) (by decide) (by decide) (by decide)).trans a3, fun k hk => by rw [ho 8 (by decide) (by decide)]; exact a4 k hk⟩
  · refine ⟨true, rfl, f47, fun _ => ?_⟩
    have h9 := (r.w.congr (M' := vwI (M' 22)) h22).ag (takF_ag (S := W.S 1) (r.w.1 3).2 (r.w.2.1 0).2)
    exact h9
  · obtain ⟨a1, a2, a3⟩ := r.e
    exact ⟨a1.trans (hf 38 (by decide) (by decide) (by decide) (by decide)).symm, a2.trans (hf 39 (by decide) (by decide) (by decide) (by decide)).symm, (ho 9 (by decide) (by decide)).trans a3⟩
theorem j_imF {A : SS} {n9 : Int32} (r : RelX W M) (ri : RW (W.S 1) (W.Ls 1) (vwI (M 22))) (g1 : A 22 = im0 M false 22) (g2 : ∀ j, j < 1707 → A (pO j) (pI j) = im0 M false 22 j) (g3 : ∀ o k, (∀ j, j < 1707 → ¬ (o = pO j ∧ k = pI j)) → A o k = im0 M false o k) : RelX (((W.tk 0 1).uF 8 0).uF 9 1) (up2 (up2 A 0 48 n9) 0 3 0) := by
  have e22 : up2 (up2 A 0 48 n9) 0 3 0 22 = M 22 := by
    funext k
    rw [up2_n (by decide), up2_n (by decide), g1, im0_v (Or.inl (by decide))]
  have hv : ∀ o k, vpos o k → up2 (up2 A 0 48 n9) 0 3 0 o k = vwI (M 22) o k := fun o k hv => by
    obtain ⟨j1, j2, j3⟩ := ixI_ok hv
    obtain ⟨a1, a2, a3, a4⟩ := vp_f hv
    rw [up2_ap, if_neg a4, up2_ap, if_neg a3]
    have h9 := g2 (ixI o k) j1
    rw [j2, j3, im0_v (Or.inl (by decide))] at h9
    exact h9
  have hf : ∀ k, fJ k = 858 → k ≠ 26 → k ≠ 48 → k ≠ 47 → k ≠ 46 → k ≠ 0 → k ≠ 3 → up2 (up2 A 0 48 n9) 0 3 0 0 k = M 0 k := fun k a a2 b c d e f => by
    rw [up2_ap, if_neg (by omega), up2_ap, if_neg (by omega), g3 0 k (no_f a a2), im0_v (Or.inr ⟨b, c, d, e⟩)]
  have ho : ∀ o, o ≠ 0 → o ≠ 1 → (∀ k, ixI o k = 0) → up2 (up2 A 0 48 n9) 0 3 0 o = M o := fun o a a1 b => by
    funext k
    rw [up2_n a, up2_n a, g3 o k (no_o (b k) a1), im0_v (Or.inl a)]
  have f47 : up2 (up2 A 0 48 n9) 0 3 0 0 47 = 1 := by
    rw [up2_ap, if_neg (by omega), up2_ap, if_neg (by omega), g3 0 47 (no_f rfl (by decide)), im0_47]
  have f3 : up2 (up2 A 0 48 n9) 0 3 0 0 3 = 0 := by rw [up2_s, pk_us]
  generalize up2 (up2 A 0 48 n9) 0 3 0 = M' at e22 hv hf ho f47 f3
  refine ⟨?_, RelU.z rfl f3, ?_, ?_, ?_⟩
  · exact (ri.congr hv).ag (takF_ag (S := W.S 0) (ri.1 3).2 (ri.2.1 0).2)
  · obtain ⟨t, a1, a2, a3, a4⟩ := r.t
    exact ⟨t, a1, a2, (hf 20 rfl (by decide) (by decide) (by decide) (by decide) (by decide) (by decide)).trans a3, fun k hk => by rw [ho 8 (by decide) (by decide) (fun _ => rfl)]; exact a4 k hk⟩
  · exact ⟨true, rfl, f47, fun _ => by rw [e22]; exact ri⟩
  · obtain ⟨a1, a2, a3⟩ := r.e
    exact ⟨a1.trans (hf 38 rfl (by decide) (by decide) (by decide) (by decide) (by decide) (by decide)).symm, a2.trans (hf 39 rfl (by decide) (by decide) (by decide) (by decide) (by decide) (by decide)).symm, (ho 9 (by decide) (by decide) (fun _ => rfl)).trans a3⟩
theorem imF_t : imF M true = up2 (imgF true (im0 M true) 1707) 0 48 (nI 1707) := by
  unfold imF imK
  rw [cond_true]
theorem imF_f : imF M false = up2 (up2 (imgF false (im0 M false) 1707) 0 48 (nI 1707)) 0 3 0 := by
  unfold imF imK
  rw [cond_false]
theorem j_image {t q : Bool} (r : RelX W M) (h47 : M 0 47 = bI q) (hx : ((t || q) = true ∧ v = 1 ∧ W' = imX W t) ∨ ((t || q) = false ∧ v = 0 ∧ W' = W)) (hk : ((t || q) = true ∧ v2 = 1 ∧ M' = imF M t) ∨ ((t || q) = false ∧ v2 = 0 ∧ M' = tl M)) : v = v2 ∧ RelX W' M' := by
  rcases hx with ⟨h1, e1, e2⟩ | ⟨h1, e1, e2⟩
  · rcases hk with ⟨h2, e3, e4⟩ | ⟨h2, e3, e4⟩
    · refine ⟨e1.trans e3.symm, ?_⟩
      rw [e2, e4]
      cases t with
      | true =>
        rw [imF_t]
        exact j_imT r (img_t (im0 M true) 1707).1 (img_t (im0 M true) 1707).2
      | false =>
        have hq : q = true := by simpa using h1
        obtain ⟨qq, i1, i2, i3⟩ := r.i
        have eq : qq = true := by
          have h9 : bI qq = bI q := i2.symm.trans h47
          rw [hq] at h9
          exact bI_1.mp h9
        rw [imF_f]
        obtain ⟨g1, g2, g3⟩ := img_f (im0 M false) 1707 (Nat.le_refl _)
        exact j_imF r (i3 eq) g1 g2 g3
    · rw [h1] at h2; exact nomatch h2
  · rcases hk with ⟨h2, e3, e4⟩ | ⟨h2, e3, e4⟩
    · rw [h1] at h2; exact nomatch h2
    · rw [e1, e2, e3, e4]; exact ⟨rfl, r.tl⟩
end AB
