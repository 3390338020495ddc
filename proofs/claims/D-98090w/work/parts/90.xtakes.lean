set_option maxRecDepth 100000
/-! what a wood that has taken another is -/
/-- S' is as S, where it matters -/
def Ag0 (S S' : SS) : Prop := ∀ k, 12 ≤ k → k < 24 → S' 0 k = S 0 k
def AgN (S S' : SS) : Prop := (S' 0 17 = S 0 17 ∧ S' 0 20 = S 0 20) ∧ (∀ c, c < 64 → S' 2 c = S 2 c ∧ S' 3 c = S 3 c ∧ S' 4 c = S 4 c ∧ S' 5 c = S 5 c) ∧ ∀ p, p < gN (S 0 16) → (S' (113 + 2 * p) 1 = S (113 + 2 * p) 1 ∧ S' (113 + 2 * p) 2 = S (113 + 2 * p) 2 ∧ S' (113 + 2 * p) 3 = S (113 + 2 * p) 3) ∧ ∀ w, w < 12 → S' (113 + 2 * p + 1) w = S (113 + 2 * p + 1) w
def AgX (S S' : SS) : Prop := Ag0 S S' ∧ AgN S S' ∧ (∀ c, c < 64 → S' 1 c = S 1 c) ∧ (∀ k, k < gN (S 0 15) → S' 7 k = S 7 k ∧ S' 8 k = S 8 k ∧ S' 9 k = S 9 k) ∧ ∀ i j, i < gN (S 0 17) → j < 4 → S' (11 + i) j = S (11 + i) j
theorem cell_ag {S S' : SS} (h : Ag0 S S') (c : Int32) : isCellB S' c = isCellB S c := by
  unfold isCellB
  rw [h 12 (by decide) (by decide), h 13 (by decide) (by decide)]
theorem RW.ag {S S' : SS} {L : List Line9} {M : SS} (r : RW S L M) (a : AgX S S') : RW S' L M := by
  obtain ⟨a0, ⟨an, ac, ap⟩, a1, ak, ab⟩ := a
  have e : ∀ k, 12 ≤ k → k < 24 → S' 0 k = S 0 k := a0
  have e15 := e 15 (by decide) (by decide)
  have e16 := e 16 (by decide) (by decide)
  have e17 := e 17 (by decide) (by decide)
  refine ⟨XB.of ?_ ?_ ?_ ?_ ?_ ?_ ?_ ?_ ?_ ?_ ?_, XN.of ?_ ?_ ?_ ?_ ?_ ?_, RN.of ?_ ?_ ?_ ?_ ?_ ?_ ?_ ?_ ?_ ?_ ?_, RB.of ?_ ?_ ?_ ?_ ?_ ?_ ?_ ?_ ?_ ?_ ?_ ?_ ?_, r.2.2.2.2⟩
  · show Bd 8 (S' 0 12) ∧ 3 ≤ gN (S' 0 12)
    rw [e 12 (by decide) (by decide)]; exact r.1 0
  · show Bd 8 (S' 0 13) ∧ 3 ≤ gN (S' 0 13)
    rw [e 13 (by decide) (by decide)]; exact r.1 1
  · show Bd 9999 (S' 0 14)
    rw [e 14 (by decide) (by decide)]; exact r.1 2
  · show Bd 12 (S' 0 15)
    rw [e 15 (by decide) (by decide)]; exact r.1 3
  · show Bd 6 (S' 0 16)
    rw [e 16 (by decide) (by decide)]; exact r.1 4
  · show Bd 1 (S' 0 19)
    rw [e 19 (by decide) (by decide)]; exact r.1 5
  · show Bd 1000 (S' 0 21)
    rw [e 21 (by decide) (by decide)]; exact r.1 6
  · show Bd 1000 (S' 0 22)
    rw [e 22 (by decide) (by decide)]; exact r.1 7
  · show Bd 1000 (S' 0 23)
    rw [e 23 (by decide) (by decide)]; exact r.1 8
  · intro c hc
    rw [a1 c hc]; exact r.1 9 c hc
  · intro k hk
    rw [e15] at hk ⊢
    rw [(ak k hk).1, (ak k hk).2.1, (ak k hk).2.2]; exact r.1 10 k hk
  · show Bd 100 (S' 0 17)
    rw [e17]; exact r.2.1 0
  · show Bd 99 (S' 0 20)
    rw [an.2]; exact r.2.1 1
  · intro c hc
    rw [(ac c hc).1, e15, cell_ag a0]; exact r.2.1 2 c hc
  · intro c hc
    rw [(ac c hc).1, (ac c hc).2.1]; exact r.2.1 3 c hc
  · intro p hp
    rw [e16] at hp
    rw [(ap p hp).1.1, cell_ag a0]; exact r.2.1 4 p hp
  · intro p hp
    rw [e16] at hp
    rw [(ap p hp).1.2.1]; exact r.2.1 5 p hp
  · show M 1 347 = S' 0 17
    rw [e17]; exact r.2.2.1 0
  · show M 1 346 = S' 0 20
    rw [an.2]; exact r.2.2.1 1
  · intro c hc
    rw [(ac c hc).1]; exact r.2.2.1 2 c hc
  · intro c hc
    rw [(ac c hc).1, (ac c hc).2.1]; exact r.2.2.1 3 c hc
  · intro c hc
    rw [(ac c hc).1, (ac c hc).2.2.1]; exact r.2.2.1 4 c hc
  · intro c hc
    rw [(ac c hc).1, (ac c hc).2.2.2]; exact r.2.2.1 5 c hc
  · intro p hp
    rw [e16] at hp
    rw [(ap p hp).1.1]; exact r.2.2.1 6 p hp
  · intro p hp
    rw [e16] at hp
    rw [(ap p hp).1.2.1]; exact r.2.2.1 7 p hp
  · intro p hp
    rw [e16] at hp
    rw [(ap p hp).1.2.2]; exact r.2.2.1 8 p hp
  · intro p w hp hw
    rw [e16] at hp
    rw [(ap p hp).2 w hw]; exact r.2.2.1 9 p w hp hw
  · intro p h1 h2
    rw [e16] at h1
    exact r.2.2.1 10 p h1 h2
  · show M 0 5 = S' 0 12
    rw [e 12 (by decide) (by decide)]; exact r.2.2.2.1 0
  · show M 0 6 = S' 0 13
    rw [e 13 (by decide) (by decide)]; exact r.2.2.2.1 1
  · show M 0 17 = S' 0 14
    rw [e 14 (by decide) (by decide)]; exact r.2.2.2.1 2
  · show M 0 8 = S' 0 15
    rw [e 15 (by decide) (by decide)]; exact r.2.2.2.1 3
  · show M 0 12 = S' 0 16
    rw [e 16 (by decide) (by decide)]; exact r.2.2.2.1 4
  · show M 0 4 = S' 0 18
    rw [e 18 (by decide) (by decide)]; exact r.2.2.2.1 5
  · show M 0 16 = S' 0 19
    rw [e 19 (by decide) (by decide)]; exact r.2.2.2.1 6
  · show M 0 13 = S' 0 21
    rw [e 21 (by decide) (by decide)]; exact r.2.2.2.1 7
  · show M 0 14 = S' 0 22
    rw [e 22 (by decide) (by decide)]; exact r.2.2.2.1 8
  · show M 0 15 = S' 0 23
    rw [e 23 (by decide) (by decide)]; exact r.2.2.2.1 9
  · intro c hc h
    rw [cell_ag a0] at h
    rw [a1 c hc]; exact r.2.2.2.1 10 c hc h
  · intro k hk
    rw [e15] at hk
    rw [(ak k hk).1, (ak k hk).2.1, (ak k hk).2.2]; exact r.2.2.2.1 11 k hk
  · intro i j hi hj
    rw [e17] at hi
    rw [ab i j hi hj]; exact r.2.2.2.1 12 i j hi hj
/-! what 'moves' and 'takes' leave -/
theorem persF_o {S So : SS} : ∀ {m o : Nat}, (o < 113 ∨ 113 + 2 * m ≤ o) → persF S So m o = S o
  | 0, _, _ => rfl
  | m + 1, o, h => by
    unfold persF setP
    rw [setF_n (by omega), setF_n (by omega)]
    exact persF_o (by omega)
theorem persF_p {S So : SS} : ∀ {m p : Nat}, p < m → (persF S So m (113 + 2 * p) 1 = So (113 + 2 * p) 1 ∧ persF S So m (113 + 2 * p) 2 = So (113 + 2 * p) 2 ∧ persF S So m (113 + 2 * p) 3 = So (113 + 2 * p) 3) ∧ ∀ w, w < 12 → persF S So m (113 + 2 * p + 1) w = So (113 + 2 * p + 1) w
  | 0, p, h => by omega
  | m + 1, p, h => by
    by_cases e : p = m
    · subst e
      unfold persF setP
      rw [setF_n (by omega), setF_s, setF_s]
      refine ⟨⟨rfl, rfl, rfl⟩, fun w hw => ?_⟩
      rw [cpy_lt hw]
    · unfold persF setP
      rw [setF_n (by omega), setF_n (by omega), setF_n (by omega), setF_n (by omega)]
      exact persF_p (by omega)
theorem movF_f {S So : SS} {m k : Nat} : movF S So m 0 k = if k = 17 then So 0 17 else if k = 20 then So 0 20 else S 0 k := by
  unfold movF cellF
  rw [setF_n (by decide), setF_n (by decide), setF_n (by decide), setF_n (by decide), persF_o (by omega), up2_ap, up2_ap]
  by_cases h1 : k = 17
  · subst h1; rfl
  · rw [if_neg (fun q => h1 q.2), if_neg h1]
    by_cases h2 : k = 20
    · subst h2; rfl
    · rw [if_neg (fun q => h2 q.2), if_neg h2]
theorem movF_c {S So : SS} {m c : Nat} (hc : c < 64) : movF S So m 2 c = So 2 c ∧ movF S So m 3 c = So 3 c ∧ movF S So m 4 c = So 4 c ∧ movF S So m 5 c = So 5 c := by
  unfold movF cellF
  refine ⟨?_, ?_, ?_, ?_⟩
  · rw [setF_n (by decide), setF_n (by decide), setF_n (by decide), setF_s, cpy_lt hc]
  · rw [setF_n (by decide), setF_n (by decide), setF_s, cpy_lt hc]
  · rw [setF_n (by decide), setF_s, cpy_lt hc]
  · rw [setF_s, cpy_lt hc]
theorem movF_h {S So : SS} {m o : Nat} (ho : 113 ≤ o) : movF S So m o = persF (up2 (up2 S 0 20 (So 0 20)) 0 17 (So 0 17)) So m o := by
  unfold movF cellF
  rw [setF_n (by omega), setF_n (by omega), setF_n (by omega), setF_n (by omega)]
theorem movF_m {S So : SS} {m o : Nat} (ho : o = 1 ∨ (6 ≤ o ∧ o < 113)) : movF S So m o = S o := by
  unfold movF cellF
  rw [setF_n (by omega), setF_n (by omega), setF_n (by omega), setF_n (by omega), persF_o (by omega), up2_n (by omega), up2_n (by omega)]
theorem movF_ag {S So : SS} : AgN So (movF S So (gN (So 0 16))) := by
  refine ⟨⟨?_, ?_⟩, fun c hc => movF_c hc, fun p hp => ?_⟩
  · rw [movF_f]; rfl
  · rw [movF_f]; rfl
  · rw [movF_h (by omega), movF_h (by omega)]
    exact persF_p hp
theorem bokF_o {S So : SS} : ∀ {n o : Nat}, (o < 11 ∨ 11 + n ≤ o) → bokF S So n o = S o
  | 0, _, _ => rfl
  | n + 1, o, h => by
    unfold bokF
    rw [setF_n (by omega)]
    exact bokF_o (by omega)
theorem bokF_i {S So : SS} : ∀ {n i j : Nat}, i < n → j < 4 → bokF S So n (11 + i) j = So (11 + i) j
  | 0, i, _, h, _ => by omega
  | n + 1, i, j, h, hj => by
    by_cases e : i = n
    · subst e
      unfold bokF
      rw [setF_s, cpy_lt hj]
    · unfold bokF
      rw [setF_n (by omega)]
      exact bokF_i (by omega) hj
theorem fldF_0 {S So : SS} {k : Nat} (h1 : 12 ≤ k) (h2 : k < 24) (h3 : k ≠ 17) (h4 : k ≠ 20) : fldF S So 0 k = So 0 k := by
  obtain ⟨j, hj, rfl⟩ : ∃ j, j < 12 ∧ k = 12 + j := ⟨k - 12, by omega, by omega⟩
  match j, hj with
  | 0, _ => rfl
  | 1, _ => rfl
  | 2, _ => rfl
  | 3, _ => rfl
  | 4, _ => rfl
  | 5, _ => exact absurd rfl h3
  | 6, _ => rfl
  | 7, _ => rfl
  | 8, _ => exact absurd rfl h4
  | 9, _ => rfl
  | 10, _ => rfl
  | 11, _ => rfl
theorem takF_lo {S So : SS} {m nw nl o : Nat} (h : o < 7 ∨ o = 10 ∨ 111 ≤ o) (hn : nl ≤ 100) (h1 : o ≠ 1) : takF S So m nw nl o = movF (fldF S So) So m o := by
  unfold takF wrdF
  rw [bokF_o (by omega), setF_n (by omega), setF_n (by omega), setF_n (by omega), setF_n h1]
theorem takF_ag {S So : SS} (h15 : gN (So 0 15) ≤ 12) (h17 : gN (So 0 17) ≤ 100) : AgX So (takF S So (gN (So 0 16)) (gN (So 0 15)) (gN (So 0 17))) := by
  have ag := movF_ag (S := fldF S So) (So := So)
  refine ⟨fun k h1 h2 => ?_, ⟨?_, fun c hc => ?_, fun p hp => ?_⟩, fun c hc => ?_, fun k hk => ?_, fun i j hi hj => ?_⟩
  · rw [takF_lo (by omega) h17 (by decide), movF_f]
    by_cases e1 : k = 17
    · subst e1; rfl
    · rw [if_neg e1]
      by_cases e2 : k = 20
      · subst e2; rfl
      · rw [if_neg e2, fldF_0 h1 h2 e1 e2]
  · rw [takF_lo (by omega) h17 (by decide)]; exact ag.1
  · rw [takF_lo (by omega) h17 (by decide), takF_lo (by omega) h17 (by decide), takF_lo (by omega) h17 (by decide), takF_lo (by omega) h17 (by decide)]; exact ag.2.1 c hc
  · rw [takF_lo (by omega) h17 (by omega), takF_lo (by omega) h17 (by omega)]; exact ag.2.2 p hp
  · unfold takF wrdF
    rw [bokF_o (by omega), setF_n (by decide), setF_n (by decide), setF_n (by decide), setF_s, cpy_lt hc]
  · unfold takF
    rw [bokF_o (by omega), bokF_o (by omega), bokF_o (by omega)]
    unfold wrdF
    refine ⟨?_, ?_, ?_⟩
    · rw [setF_n (by decide), setF_n (by decide), setF_s, cpy_lt hk]
    · rw [setF_n (by decide), setF_s, cpy_lt hk]
    · rw [setF_s, cpy_lt hk]
  · unfold takF
    exact bokF_i hi hj
