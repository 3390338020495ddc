set_option maxRecDepth 100000
/-! CALL BY CALL: acts, what is undone -/
theorem RU.ag {S T' : SS} {N : Nat → Int32} (r1 : RN S (gN (S 0 16)) N) (r2 : XN S S) (a : AgN S T') : RN T' (gN (S 0 16)) N ∧ XN T' S := by
  obtain ⟨⟨a17, a20⟩, ac, ap⟩ := a
  refine ⟨RN.of ?_ ?_ ?_ ?_ ?_ ?_ ?_ ?_ ?_ ?_ (r1 10), XN.of ?_ ?_ ?_ ?_ ?_ ?_⟩
  · show N 347 = T' 0 17
    rw [a17]; exact r1 0
  · show N 346 = T' 0 20
    rw [a20]; exact r1 1
  · intro c hc
    rw [(ac c hc).1]; exact r1 2 c hc
  · intro c hc
    rw [(ac c hc).1, (ac c hc).2.1]; exact r1 3 c hc
  · intro c hc
    rw [(ac c hc).1, (ac c hc).2.2.1]; exact r1 4 c hc
  · intro c hc
    rw [(ac c hc).1, (ac c hc).2.2.2]; exact r1 5 c hc
  · intro p hp
    rw [(ap p hp).1.1]; exact r1 6 p hp
  · intro p hp
    rw [(ap p hp).1.2.1]; exact r1 7 p hp
  · intro p hp
    rw [(ap p hp).1.2.2]; exact r1 8 p hp
  · intro p w hp hw
    rw [(ap p hp).2 w hw]; exact r1 9 p w hp hw
  · show Bd 100 (T' 0 17)
    rw [a17]; exact r2 0
  · show Bd 99 (T' 0 20)
    rw [a20]; exact r2 1
  · intro c hc
    rw [(ac c hc).1]; exact r2 2 c hc
  · intro c hc
    rw [(ac c hc).1, (ac c hc).2.1]; exact r2 3 c hc
  · intro p hp
    rw [(ap p hp).1.1]; exact r2 4 p hp
  · intro p hp
    rw [(ap p hp).1.2.1]; exact r2 5 p hp
section AA
variable {W W' : XW} {M M' : SS} {u : Nat} {v v2 q w n x : Int32}
theorem kpX_j : (kpX W u).S (3 + (kp0 W u).pi (kaU u)) = movF (up2 (W.S (3 + (kp0 W u).pi (kaU u))) 0 16 (W.S 0 0 16)) (W.S 0) (gN (W.S 0 0 16)) := by
  generalize hj : 3 + (kp0 W u).pi (kaU u) = j
  unfold kpX kp1
  rw [hj]
  show upN (upN (kp0 W u).S j _) j _ j = _
  rw [upN_s]
  show movF (upN (kp0 W u).S j _ j) (upN (kp0 W u).S j _ 0) _ = _
  rw [upN_s, upN_n (by omega), kp0_S]
theorem kpX_n {j : Nat} (h : j ≠ 3 + (kp0 W u).pi (kaU u)) : (kpX W u).S j = W.S j := by
  unfold kpX kp1
  show upN (upN (kp0 W u).S _ _) _ _ j = _
  rw [upN_n h, upN_n h, kp0_S]
theorem kpX_pi : (kpX W u).pi = (kp0 W u).pi := rfl
theorem kp0_pi {k : Nat} (hk : k < 12) : (kp0 W u).pi k = if u = 12 then rot W.pi k else W.pi k := by
  unfold kp0
  split <;> rfl
theorem kp0_in (p2 : ∀ k k', k < 12 → k' < 12 → W.pi k = W.pi k' → k = k') (p1 : ∀ k, k < 12 → W.pi k < 12) {k k' : Nat} (hk : k < 12) (hk' : k' < 12) (h : (kp0 W u).pi k = (kp0 W u).pi k') : k = k' := by
  rw [kp0_pi hk, kp0_pi hk'] at h
  by_cases e : u = 12
  · rw [if_pos e, if_pos e] at h; exact (rot_in p1 p2).2 k k' hk hk' h
  · rw [if_neg e, if_neg e] at h; exact p2 k k' hk hk' h
theorem RelX.kept (r : RelX W M) (hu : M 0 3 = nI u) (hu2 : u ≤ 12) (p1 : ∀ k, k < 12 → W.pi k < 12) (p2 : ∀ k k', k < 12 → k' < 12 → W.pi k = W.pi k' → k = k') : RelX (kpX W u) (kaF M u) := by
  have hku : kaU u < 12 := by unfold kaU; split <;> omega
  have e0 : (kpX W u).S 0 = W.S 0 := kpX_S (by decide)
  have e1 : (kpX W u).S 1 = W.S 1 := kpX_S (by decide)
  have eL : (kpX W u).Ls = W.Ls := by
    show (kp0 W u).Ls = W.Ls
    unfold kp0
    split <;> rfl
  have eT : (kpX W u).T = W.T := by
    show (kp0 W u).T = W.T
    unfold kp0
    split <;> rfl
  have eF : ∀ k, k ≠ 8 → (kpX W u).F k = W.F k := fun k hk => by
    show upd (kp0 W u).F 8 _ k = _
    rw [pk_un hk]
    unfold kp0
    split
    · show upd W.F 8 _ k = _
      rw [pk_un hk]
    · rfl
  refine ⟨?_, ?_, ?_, ?_, ?_⟩
  · rw [e0, eL]
    refine r.w.congr (fun o k hv => ?_)
    have h9 : o = 0 ∨ o = 1 ∨ o = 3 ∨ o = 4 ∨ o = 5 ∨ o = 6 ∨ o = 7 ∨ o = 10 ∨ o = 11 ∨ o = 12 ∨ o = 13 ∨ o = 14 := by unfold vpos at hv; omega
    unfold kaF
    rw [up2_ap, if_neg (by unfold vpos at hv; omega), setF_n (by omega)]
  · obtain ⟨u', a1, a2, a3, a4, a5, a6⟩ := r.u
    obtain rfl : u' = u := (nI_eq (by omega) (by omega)).mp (a3.symm.trans hu)
    -- what an old row is
    have old : ∀ k, k < kaU u' → ∃ k2, k2 < u' ∧ (kp0 W u').pi k = W.pi k2 ∧ (∀ j, j < 348 → kaF M u' 2 (348 * k + j) = M 2 (348 * k2 + j)) ∧ k2 = (if u' = 12 then k + 1 else k) := by
      intro k hk
      have ek : ∀ j, j < 348 → kaF M u' 2 (348 * k + j) = kaR M u' (348 * k + j) := fun j hj => by
        unfold kaF
        rw [up2_n (by decide), setF_s]
        unfold putR
        rw [if_neg (by omega)]
      unfold kaU at hk
      by_cases e : u' = 12
      · rw [if_pos e] at hk
        refine ⟨k + 1, by omega, ?_, fun j hj => ?_, by rw [if_pos e]⟩
        · rw [kp0_pi (by omega), if_pos e]
          unfold rot
          rw [if_pos hk]
        · rw [ek j hj]
          unfold kaR shfF
          rw [if_pos e, if_pos (by omega), show 348 * (k + 1) + j = 348 * k + j + 348 from by omega]
      · rw [if_neg e] at hk
        refine ⟨k, hk, ?_, fun j hj => ?_, by rw [if_neg e]⟩
        · rw [kp0_pi (by omega), if_neg e]
        · rw [ek j hj]
          unfold kaR
          rw [if_neg e]
    have ne : ∀ k, k < kaU u' → 3 + (kp0 W u').pi k ≠ 3 + (kp0 W u').pi (kaU u') := fun k hk h => by
      have := kp0_in (u := u') p2 p1 (k := k) (k' := kaU u') (by omega) hku (by omega)
      omega
    have ag := movF_ag (S := up2 (W.S (3 + (kp0 W u').pi (kaU u'))) 0 16 (W.S 0 0 16)) (So := W.S 0)
    refine ⟨kaU u' + 1, by omega, ?_, ?_, fun k hk => ?_, fun k hk => ?_, fun k k' hk hk' => ?_⟩
    · show upd (kp0 W u').F 8 (nI (kaU u' + 1)) 8 = _
      rw [pk_us]
    · unfold kaF
      rw [up2_s, pk_us]
    · rw [e0, kpX_pi]
      rcases Nat.lt_or_ge k (kaU u') with q | q
      · obtain ⟨k2, b1, b2, b3, -⟩ := old k q
        rw [kpX_n (ne k q), b2]
        obtain ⟨c1, c2⟩ := a4 k2 b1
        exact ⟨c1.congr (r.w.1 4).2 b3, c2⟩
      · obtain rfl : k = kaU u' := by omega
        rw [kpX_j]
        obtain ⟨c1, c2⟩ := RU.ag r.w.2.2.1 r.w.2.1 ag
        refine ⟨c1.congr (r.w.1 4).2 (fun j hj => ?_), c2⟩
        unfold kaF
        rw [up2_n (by decide), setF_s]
        unfold putR
        rw [if_pos (by omega), show 348 * kaU u' + j - 348 * kaU u' = j from by omega]
    · rw [e0, kpX_pi]
      rcases Nat.lt_or_ge k (kaU u') with q | q
      · obtain ⟨k2, b1, b2, -⟩ := old k q
        rw [kpX_n (ne k q), b2]; exact a5 k2 b1
      · obtain rfl : k = kaU u' := by omega
        rw [kpX_j, ag.1.1]; exact Nat.le_refl _
    · rw [kpX_pi]
      rcases Nat.lt_or_ge k' (kaU u') with q | q
      · obtain ⟨k2, b1, b2, -, b4⟩ := old k (by omega)
        obtain ⟨k3, c1, c2, -, c4⟩ := old k' q
        rw [kpX_n (ne k (by omega)), kpX_n (ne k' q), b2, c2]
        exact a6 k2 k3 (by rw [b4, c4]; split <;> omega) c1
      · obtain rfl : k' = kaU u' := by omega
        rw [kpX_j, ag.1.1]
        rcases Nat.lt_or_ge k (kaU u') with q | q
        · obtain ⟨k2, b1, b2, -⟩ := old k q
          rw [kpX_n (ne k q), b2]; exact a5 k2 b1
        · obtain rfl : k = kaU u' := by omega
          rw [kpX_j, ag.1.1]; exact Nat.le_refl _
  · obtain ⟨t, h1, h2, h3, h4⟩ := r.t
    exact ⟨t, h1, by rw [eF 1 (by decide)]; exact h2, h3, fun k hk => by rw [eT]; exact h4 k hk⟩
  · obtain ⟨q, h1, h2, h3⟩ := r.i
    exact ⟨q, by rw [eF 9 (by decide)]; exact h1, h2, fun e => by rw [e1, eL]; exact h3 e⟩
  · obtain ⟨h1, h2, h3⟩ := r.e
    exact ⟨by rw [eF 2 (by decide)]; exact h1, by rw [eF 3 (by decide)]; exact h2, h3⟩
/-- the wood has changed, and of the model what an image keeps -/
theorem RelX.upS {A : SS} (r : RelX W M) (hA : RW A (W.Ls 0) M') (hM : ∀ o, (o = 0 ∨ o = 2 ∨ o = 8 ∨ o = 9 ∨ o = 22) → M' o = M o) (h15 : A 0 15 = W.S 0 0 15) (h16 : A 0 16 = W.S 0 0 16) (hc : ∀ c, isCellB A c = isCellB (W.S 0) c) (h17 : gN (W.S 0 0 17) ≤ gN (A 0 17)) : RelX (W.uS 0 A) M' := by
  have m0 := hM 0 (by omega)
  have m2 := hM 2 (by omega)
  have m8 := hM 8 (by omega)
  have m9 := hM 9 (by omega)
  have m22 := hM 22 (by omega)
  refine ⟨hA, r.u.keep rfl (by rw [m0]) m2 rfl (fun j hj => upN_n (by omega)) h15 h16 hc h17, ?_, ?_, ?_⟩
  · obtain ⟨t, h1, h2, h3, h4⟩ := r.t
    exact ⟨t, h1, h2, by rw [m0]; exact h3, fun k hk => by rw [m8]; exact h4 k hk⟩
  · obtain ⟨q, h1, h2, h3⟩ := r.i
    exact ⟨q, h1, by rw [m0]; exact h2, fun e => by rw [m22]; exact h3 e⟩
  · obtain ⟨h1, h2, h3⟩ := r.e
    exact ⟨by rw [m0]; exact h1, by rw [m0]; exact h2, by rw [m9]; exact h3⟩
theorem hi_cell {S : SS} {o i : Nat} {x : Int32} (ho : 0 < o) (c : Int32) : isCellB (up2 S o i x) c = isCellB S c := by
  unfold isCellB
  rw [up2_n (by omega)]
theorem m_up1 {j : Nat} {x : Int32} : ∀ o, (o = 0 ∨ o = 2 ∨ o = 8 ∨ o = 9 ∨ o = 22) → up2 M 1 j x o = M o := fun o ho => up2_n (by omega)
theorem RelX.u1 {o i j : Nat} {x : Int32} (r : RelX W M) (ho : 0 < o) (h : RW (up2 (W.S 0) o i x) (W.Ls 0) (up2 M 1 j x)) : RelX (W.up 0 o i x) (up2 M 1 j x) :=
  r.upS h m_up1 (by rw [up2_n (by omega)]) (by rw [up2_n (by omega)]) (fun c => hi_cell ho c) (by rw [up2_n (by omega)]; exact Nat.le_refl _)
theorem RelX.pick (r : RelX W M) {c : Nat} (hc : c < 64) : RelX (W.up 0 2 c (-1)) (up2 M 1 c 0) :=
  r.upS (r.w.pick hc) m_up1 rfl rfl (fun _ => rfl) (Nat.le_refl _)
theorem go_cell {S : SS} {a b : Int32} (hb : XB S) (ha : isInB a 0 (S 0 12 - 1) = true) (h2 : isInB b 0 (S 0 13 - 1) = true) : Bd 63 (8 * b + a) ∧ isCellB S (8 * b + a) = true := by
  have w1 := (hb 0).1
  have w2 := (hb 1).1
  obtain ⟨i, hi, rfl⟩ := isIn_pred w1 (by decide) ha
  obtain ⟨j, hj, rfl⟩ := isIn_pred w2 (by decide) h2
  have := w1.2
  have := w2.2
  have e : 8 * nI j + nI i = nI (8 * j + i) := by rw [show (8 : Int32) = nI 8 from rfl, pk_mul, nI_add]
  rw [e]
  refine ⟨bd_nI (by omega) (by decide), ?_⟩
  have d1 : nI (8 * j + i) / 8 = nI j := by
    have h9 : nI (8 * j + i) / nI 8 = nI ((8 * j + i) / 8) := pk_div (by omega) (by decide) (by decide)
    refine h9.trans ?_
    congr 1; omega
  unfold isCellB
  rw [d1, show isInB (nI (8 * j + i)) 0 63 = true from isInB_t.mpr ⟨nI_pos' (by omega), nI_le (b := 63) (by omega) (by decide)⟩, Bool.true_and, Bool.and_eq_true, decide_eq_true_eq, decide_eq_true_eq]
  constructor
  · rw [show nI j * 8 = nI (j * 8) from by rw [show (8 : Int32) = nI 8 from rfl, pk_mul], pk_sub (by omega), w1.1, nI_ltI (by omega) (by omega)]
    omega
  · rw [w2.1, nI_ltI (by omega) (by omega)]; exact hj
theorem j_go (r : RelX W M) (hu : M 0 3 = nI u) (hu2 : u ≤ 12) (p1 : ∀ k, k < 12 → W.pi k < 12) (p2 : ∀ k k', k < 12 → k' < 12 → W.pi k = W.pi k' → k = k') (hx : (goC (tl M) q w n ∧ v = 1 ∧ W' = goX W u q w n) ∨ (¬ goC (tl M) q w n ∧ v = 0 ∧ W' = W)) (hk : (goC (tl M) q w n ∧ v2 = 1 ∧ M' = goF (tl M) u q w n) ∨ (¬ goC (tl M) q w n ∧ v2 = 0 ∧ M' = tl M)) : v = v2 ∧ RelX W' M' := by
  rcases hx with ⟨h1, rfl, rfl⟩ | ⟨h1, rfl, rfl⟩
  · rcases hk with ⟨h2, rfl, rfl⟩ | ⟨h2, rfl, rfl⟩
    · refine ⟨rfl, ?_⟩
      obtain ⟨hps, -, -, g1, g2⟩ := h1
      obtain ⟨k, hk, hk6, rfl, hg⟩ := r.tl.pp (by rw [← r.tl.ps]; exact hps)
      have ec := r.tl.pc hk
      rw [hg, ec] at g1 g2
      rw [show tl M 0 5 = _ from r.tl.w.2.2.2.1 0] at g1
      rw [show tl M 0 6 = _ from r.tl.w.2.2.2.1 1] at g2
      have hcell := go_cell r.w.1 g1 g2
      have rk := r.tl.kept hu hu2 p1 p2
      unfold goX goF
      rw [hg, ec]
      have e0 : (kpX W u).S 0 = W.S 0 := kpX_S (by decide)
      refine rk.u1 (by omega) ?_
      rw [e0]
      have hw := rk.w
      rw [e0] at hw
      exact hw.pc hk hcell
    · exact absurd h1 h2
  · rcases hk with ⟨h2, rfl, rfl⟩ | ⟨h2, rfl, rfl⟩
    · exact absurd h2 h1
    · exact ⟨rfl, r.tl⟩
theorem br1_eq {c : Nat} : br1 W c q w = W.uS 0 (up2 (up2 (up2 (up2 (W.S 0) 2 c w) 3 c 0) 4 c (W.S 0 0 14)) 5 c q) := by
  unfold br1 XW.up
  rw [uS_s, uS_2, uS_s, uS_2, uS_s, uS_2]
theorem br2_eq {l c : Nat} : br2 W l c q w = W.uS 0 (up2 (up2 (up2 (up2 (up2 (W.S 0) (11 + l) 0 q) (11 + l) 1 (nI c)) (11 + l) 2 w) (11 + l) 3 (W.S 0 0 14)) 0 17 (nI l + 1)) := by
  unfold br2 XW.up
  rw [uS_s, uS_2, uS_s, uS_2, uS_s, uS_2, uS_s, uS_2]
theorem j_breaks (r : RelX W M) (hu : M 0 3 = nI u) (hu2 : u ≤ 12) (p1 : ∀ k, k < 12 → W.pi k < 12) (p2 : ∀ k k', k < 12 → k' < 12 → W.pi k = W.pi k' → k = k') (hx : (bkC (tl M) q w ∧ v = 1 ∧ W' = brX W u (gN (tl M 1 (256 + gN q))) q w) ∨ (¬ bkC (tl M) q w ∧ v = 0 ∧ W' = W)) (hk : (bkC (tl M) q w ∧ v2 = 1 ∧ M' = bkF (tl M) u q w) ∨ (¬ bkC (tl M) q w ∧ v2 = 0 ∧ M' = tl M)) : v = v2 ∧ RelX W' M' := by
  rcases hx with ⟨h1, rfl, rfl⟩ | ⟨h1, rfl, rfl⟩
  · rcases hk with ⟨h2, rfl, rfl⟩ | ⟨h2, rfl, rfl⟩
    · refine ⟨rfl, ?_⟩
      obtain ⟨hps, hwn, -, -⟩ := h1
      obtain ⟨k, hk, hk6, rfl, hg⟩ := r.tl.pp (by rw [← r.tl.ps]; exact hps)
      obtain ⟨wn, hw1, hw2, rfl, hwg⟩ := isIn_predI (r.w.1 3) (by decide) (show isInB w 0 (W.S 0 0 15 - 1) = true from by rw [r.tl.wn] at hwn; exact hwn)
      have ec := r.tl.pc hk
      obtain ⟨hcb, hcc⟩ := r.tl.pcell hk
      have rk := r.tl.kept hu hu2 p1 p2
      have e0 : (kpX W u).S 0 = W.S 0 := kpX_S (by decide)
      have hw := rk.w
      have hc63 : gN (W.S 0 (113 + 2 * k) 1) < 64 := by have := hcb.2; omega
      rw [hg, ec]
      unfold brX bkF
      rw [hg, ec]
      have s1 : RelX (br1 (kpX W u) (gN (W.S 0 (113 + 2 * k) 1)) (nI k) (nI wn)) (bk1 (kaF (tl M) u) (gN (W.S 0 (113 + 2 * k) 1)) (nI k) (nI wn)) := by
        rw [br1_eq]
        refine rk.upS ?_ (fun o ho => ?_) rfl rfl (fun _ => rfl) (Nat.le_refl _)
        · have h9 := hw.cap (c := gN (W.S 0 (113 + 2 * k) 1)) (w := nI wn) (y := (kpX W u).S 0 0 14) (q := nI k) hc63 (by rw [e0, ← hcb.1]; exact hcc) (by rw [e0]; exact ⟨bd_nI (by omega) (by decide), by rw [hwg]; exact hw1⟩)
          unfold bk1
          rw [show kaF (tl M) u 0 17 = (kpX W u).S 0 0 14 from rk.w.2.2.2.1 2]
          exact h9
        · unfold bk1
          rw [up2_n (by omega), up2_n (by omega), up2_n (by omega), up2_n (by omega)]
      have eln : (tl M) 1 347 = W.S 0 0 17 := r.ln.2
      unfold notF
      rw [eln]
      have hln := r.ln.1
      by_cases e : W.S 0 0 17 = 100
      · rw [if_pos e, if_pos (by rw [e]; rfl)]; exact s1
      · have hl100 : gN (W.S 0 0 17) < 100 := by
          have h8 := hln.2
          rcases Nat.lt_or_ge (gN (W.S 0 0 17)) 100 with q | q
          · exact q
          · exact absurd (by show W.S 0 0 17 = 100; rw [hln.1, show gN (W.S 0 0 17) = 100 from by omega]; rfl) e
        rw [if_neg e, if_neg (by omega), br2_eq]
        have eS : (br1 (kpX W u) (gN (W.S 0 (113 + 2 * k) 1)) (nI k) (nI wn)).S 0 0 17 = nI (gN (W.S 0 0 17)) := by rw [br1_f, e0]; exact hln.1
        refine s1.upS ?_ (fun o ho => ?_) ?_ ?_ (fun c => ?_) ?_
        · have h9 := s1.w.note (c := W.S 0 (113 + 2 * k) 1) (w := nI wn) (y := (br1 (kpX W u) (gN (W.S 0 (113 + 2 * k) 1)) (nI k) (nI wn)).S 0 0 14) (q := nI k) eS hl100
          rw [show bk1 (kaF (tl M) u) (gN (W.S 0 (113 + 2 * k) 1)) (nI k) (nI wn) 0 17 = (br1 (kpX W u) (gN (W.S 0 (113 + 2 * k) 1)) (nI k) (nI wn)).S 0 0 14 from s1.w.2.2.2.1 2, ← hcb.1]
          exact h9
        · rw [up2_n (by omega), up2_n (by omega), up2_n (by omega), up2_n (by omega), up2_n (by omega)]
        · rw [up2_s, pk_un (by decide), up2_n (by omega), up2_n (by omega), up2_n (by omega), up2_n (by omega)]
        · rw [up2_s, pk_un (by decide), up2_n (by omega), up2_n (by omega), up2_n (by omega), up2_n (by omega)]
        · unfold isCellB
          rw [up2_s, pk_un (by decide), pk_un (by decide), up2_n (by omega), up2_n (by omega), up2_n (by omega), up2_n (by omega)]
        · rw [up2_s, pk_us, eS, nI_1, gN_nI (by omega), gN_nI (by omega)]; omega
    · exact absurd h1 h2
  · rcases hk with ⟨h2, rfl, rfl⟩ | ⟨h2, rfl, rfl⟩
    · exact absurd h2 h1
    · exact ⟨rfl, r.tl⟩
end AA
