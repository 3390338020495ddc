set_option maxRecDepth 100000
/-! THE LAW: its loop, its end, its entry -/
theorem and31 (y : Int32) : ∃ t, t < 32 ∧ y &&& 31 = nI t := by
  refine ⟨(y &&& 31).toBitVec.toNat, ?_, (nI_bv (y &&& 31)).symm⟩
  have e : (y &&& 31).toBitVec = y.toBitVec &&& (31 : Int32).toBitVec := rfl
  rw [e, BitVec.toNat_and]
  have h31 : (31 : Int32).toBitVec.toNat = 31 := by decide
  rw [h31]
  have := Nat.and_le_right (n := y.toBitVec.toNat) (m := 31)
  omega
section LL9
variable {l : Launch} {G : GG} {b L x : Nat} {xs : Nat → Int32}
theorem X.lret {cs ss z : Nat} {Lo : LL} {h : AH} (hc : cs ≤ 601024) (hs : ss ≤ 7293034) : X l G mL_law RMl (TGl G b L xs) cs ss 1114 Lo [.int 1] h z := by
  intro p e s m args below meth c H locs ls E C0 R hq hl T hT X9
  by_cases A : ScrO G b L xs args s
  · obtain ⟨-, rfl, e0⟩ := A
    have X8 : Stand p l e RMl s m #[Value.ref b] below meth c T [] 601024 7293034 := stand_widen (Jvm.Stand.dropFresh (locs := []) (J := locs) X9 (fun q hq' => by rw [← e0]; exact hq q hq')) hc hs
    have hx := E.1
    have hb : c.code = code := E.2.1
    have hr : meth.sig.returnType = some .boolean := E.2.2.1
    have hlocks : meth.locks = false := E.2.2.2.1
    have hdg : decode code 1114 = .ok (.ireturn, 1) := dL_law_1114
    obtain ⟨fs, hret, hrun, hended, hW, hframe⟩ := X8.leave (v := some (.int 1)) (hlocks := hlocks) (fun h => by rw [hr] at h; cases h)
    have hmeth' : T.vm.method? m = some meth := X8.method'
    refine ⟨T.setFrames fs, ?_, fun _ => ⟨.returned (some (.int 1)), hrun, hended, rfl, ⟨_, rfl⟩, hW, hframe⟩⟩
    jvm_step X8.here [X8.here.top, hx, hb, hdg, hmeth', hr, narrow_b1]
    (try refine ⟨rfl, ?_⟩); (try refine ⟨rfl, ?_⟩)
    first | (intro acts; rw [hret _ acts rfl rfl rfl]) | rw [hret _ _ rfl rfl rfl]
    exact Steps.refl _
  · exact ⟨_, Steps.refl _, fun a => absurd a A⟩
theorem l_loop (hl : l.stackTraces = false) (hL : L ≤ 384) : ∀ (n k : Nat) (W : XW) (M : SS) (h : AH) (z : Nat), k + n = 64 → 6 * k ≤ L → IsX G x W h → IsMod G (x + 1959) M h → RelX W M → X l G mL_law RMl (TGl G b L xs) (1982 + 861 * k) (40000 + 5366 * k) 18 (LOi b x (6 * k)) [] h z := by
  intro n
  induction n with
  | zero =>
    intro k W M h z hk hkL hx hm r
    obtain rfl : k = 64 := by omega
    obtain rfl : L = 384 := by omega
    unfold LOi
    refine X.walk wkL_law fnil RetOk.no ⟨by show 1982 + 861 * 64 ≤ 601024; decide, by show 40000 + 5366 * 64 ≤ 7293034; decide⟩ [20] 2 rfl ?_
    refine X.slen (by decide) pkL_law rfl ?_
    refine X.walk wkL_law fnil RetOk.no ⟨by show 1982 + 861 * 64 ≤ 601024; decide, by show 40000 + 5366 * 64 ≤ 7293034; decide⟩ [27, 1113] 3 rfl ?_
    refine And.intro (fun _ => ?_) (fun b9 => absurd (show nI 384 - 6 < nI (6 * 64) by decide) b9)
    refine X.walk wkL_law fnil RetOk.no ⟨by show 1982 + 861 * 64 ≤ 601024; decide, by show 40000 + 5366 * 64 ≤ 7293034; decide⟩ [1114] 1 rfl ?_
    exact X.lret (by decide) (by decide)
  | succ n ih =>
    intro k W M h z hk hkL hx hm r
    have hc0 : 1982 + 861 * k + 861 ≤ 601024 := by omega
    have hs0 : 40000 + 5366 * k + 5366 ≤ 7293034 := by omega
    have hLO : LOi b x (6 * k) = [(0, .ref b), (1, .ref x), (2, .ref (x + 1959)), (3, .int (nI (6 * k)))] := rfl
    rw [hLO]
    refine X.walk wkL_law fnil RetOk.no ⟨by show 1982 + 861 * k ≤ 601024; omega, by show 40000 + 5366 * k ≤ 7293034; omega⟩ [20] 2 rfl ?_
    refine X.slen (by omega) pkL_law rfl ?_
    refine X.walk wkL_law fnil RetOk.no ⟨by show 1982 + 861 * k ≤ 601024; omega, by show 40000 + 5366 * k ≤ 7293034; omega⟩ [27, 1113] 3 rfl ?_
    have fin : X l G mL_law RMl (TGl G b L xs) (1982 + 861 * k) (40000 + 5366 * k) 1113 [(0, .ref b), (1, .ref x), (2, .ref (x + 1959)), (3, .int (nI (6 * k)))] [] h z := by
      refine X.walk wkL_law fnil RetOk.no ⟨by show 1982 + 861 * k ≤ 601024; omega, by show 40000 + 5366 * k ≤ 7293034; omega⟩ [1114] 1 rfl ?_
      exact X.lret (by omega) (by omega)
    refine And.intro (fun _ => fin) (fun b9 => ?_)
    have b9 : ¬ nI L - 6 < nI (6 * k) := b9
    have hi : 6 * k + 6 ≤ L := by
      by_cases h6 : L < 6
      · obtain rfl : k = 0 := by omega
        exfalso
        apply b9
        match L, h6 with
        | 0, _ => decide
        | 1, _ => decide
        | 2, _ => decide
        | 3, _ => decide
        | 4, _ => decide
        | 5, _ => decide
      · rw [show (6 : Int32) = nI 6 from rfl, pk_sub (by omega), nI_ltI (by omega) (by omega)] at b9
        omega
    have nx : LNx l G b L x (6 * k) (1982 + 861 * k) (40000 + 5366 * k) xs := by
      intro W1 M1 h1 z1 hx1 hm1 r1
      rw [hLO]
      refine X.walk wkL_law fnil RetOk.no ⟨by show 1982 + 861 * k + 861 ≤ 601024; omega, by show 40000 + 5366 * k + 5366 ≤ 7293034; omega⟩ [18] 2 rfl ?_
      have h9 := ih (k + 1) W1 M1 h1 z1 (by omega) (by omega) hx1 hm1 r1
      have e9 : nI (6 * (k + 1)) = nI (6 * k) + 6 := by
        rw [show (6 : Int32) = nI 6 from rfl, nI_add]; rfl
      unfold LOi at h9
      rw [e9, show 1982 + 861 * (k + 1) = 1982 + 861 * k + 861 from by omega, show 40000 + 5366 * (k + 1) = 40000 + 5366 * k + 5366 from by omega] at h9
      exact h9
    refine X.walk wkL_law fnil RetOk.no ⟨by show 1982 + 861 * k ≤ 601024; omega, by show 40000 + 5366 * k ≤ 7293034; omega⟩ [29] 2 rfl ?_
    refine X.scr (j := 6 * k) pkL_law rfl (ixN (by omega) (by omega)) ?_
    refine X.walk wkL_law fnil RetOk.no ⟨by show 1982 + 861 * k ≤ 601024; omega, by show 40000 + 5366 * k ≤ 7293034; omega⟩ [33] 2 rfl ?_
    obtain ⟨t, ht, et⟩ := and31 (xs (6 * k))
    show X l G mL_law RMl (TGl G b L xs) (1982 + 861 * k) (40000 + 5366 * k) 33 [(0, .ref b), (1, .ref x), (2, .ref (x + 1959)), (3, .int (nI (6 * k)))] [.int (xs (6 * k) &&& 31)] h z
    rw [et]
    match t, ht with
    | 0, _ => exact X.tswIn (off := _) (tgt := _) pkL_law rfl (by decide) (by decide) rfl (by decide) (l_state hi hL hc0 hs0 hx hm r nx)
    | 1, _ => exact X.tswIn (off := _) (tgt := _) pkL_law rfl (by decide) (by decide) rfl (by decide) (l_wood hi hL hc0 hs0 hx hm r nx)
    | 2, _ => exact X.tswIn (off := _) (tgt := _) pkL_law rfl (by decide) (by decide) rfl (by decide) (l_damp hi hL hc0 hs0 hx hm r nx)
    | 3, _ => exact X.tswIn (off := _) (tgt := _) pkL_law rfl (by decide) (by decide) rfl (by decide) (l_word hi hL hc0 hs0 hx hm r nx)
    | 4, _ => exact X.tswIn (off := _) (tgt := _) pkL_law rfl (by decide) (by decide) rfl (by decide) (l_person hi hL hc0 hs0 hx hm r nx)
    | 5, _ => exact X.tswIn (off := _) (tgt := _) pkL_law rfl (by decide) (by decide) rfl (by decide) (l_set hi hL hc0 hs0 hx hm r nx)
    | 6, _ => exact X.tswIn (off := _) (tgt := _) pkL_law rfl (by decide) (by decide) rfl (by decide) (l_go hi hL hc0 hs0 hx hm r nx)
    | 7, _ => exact X.tswIn (off := _) (tgt := _) pkL_law rfl (by decide) (by decide) rfl (by decide) (l_breaks hi hL hc0 hs0 hx hm r nx)
    | 8, _ => exact X.tswIn (off := _) (tgt := _) pkL_law rfl (by decide) (by decide) rfl (by decide) (l_act hi hL hc0 hs0 hx hm r nx)
    | 9, _ => exact X.tswIn (off := _) (tgt := _) pkL_law rfl (by decide) (by decide) rfl (by decide) (l_feed hi hL hc0 hs0 hx hm r nx)
    | 10, _ => exact X.tswIn (off := _) (tgt := _) pkL_law rfl (by decide) (by decide) rfl (by decide) (l_end hi hL hc0 hs0 hx hm r nx)
    | 11, _ => exact X.tswIn (off := _) (tgt := _) pkL_law rfl (by decide) (by decide) rfl (by decide) (l_text hl hi hL hc0 hs0 hx hm r nx)
    | 12, _ => exact X.tswIn (off := _) (tgt := _) pkL_law rfl (by decide) (by decide) rfl (by decide) (l_fault hi hL hc0 hs0 hx hm r nx)
    | 13, _ => exact X.tswIn (off := _) (tgt := _) pkL_law rfl (by decide) (by decide) rfl (by decide) (l_days hi hL hc0 hs0 hx hm r nx)
    | 14, _ => exact X.tswIn (off := _) (tgt := _) pkL_law rfl (by decide) (by decide) rfl (by decide) (l_at hi hL hc0 hs0 hx hm r nx)
    | 15, _ => exact X.tswIn (off := _) (tgt := _) pkL_law rfl (by decide) (by decide) rfl (by decide) (l_of hi hL hc0 hs0 hx hm r nx)
    | 16, _ => exact X.tswIn (off := _) (tgt := _) pkL_law rfl (by decide) (by decide) rfl (by decide) (l_kind hi hL hc0 hs0 hx hm r nx)
    | 17, _ => exact X.tswIn (off := _) (tgt := _) pkL_law rfl (by decide) (by decide) rfl (by decide) (l_book hi hL hc0 hs0 hx hm r nx)
    | 18, _ => exact X.tswIn (off := _) (tgt := _) pkL_law rfl (by decide) (by decide) rfl (by decide) (l_soup hi hL hc0 hs0 hx hm r nx)
    | 19, _ => exact X.tswIn (off := _) (tgt := _) pkL_law rfl (by decide) (by decide) rfl (by decide) (l_unsaid hi hL hc0 hs0 hx hm r nx)
    | 20, _ => exact X.tswIn (off := _) (tgt := _) pkL_law rfl (by decide) (by decide) rfl (by decide) (l_odds hi hL hc0 hs0 hx hm r nx)
    | 21, _ => exact X.tswIn (off := _) (tgt := _) pkL_law rfl (by decide) (by decide) rfl (by decide) (l_grove hi hL hc0 hs0 hx hm r nx)
    | 22, _ => exact X.tswIn (off := _) (tgt := _) pkL_law rfl (by decide) (by decide) rfl (by decide) (l_engaged hi hL hc0 hs0 hx hm r nx)
    | 23, _ => exact X.tswIn (off := _) (tgt := _) pkL_law rfl (by decide) (by decide) rfl (by decide) (l_size hi hL hc0 hs0 hx hm r nx)
    | 24, _ => exact X.tswIn (off := _) (tgt := _) pkL_law rfl (by decide) (by decide) rfl (by decide) (l_full hi hL hc0 hs0 hx hm r nx)
    | 25, _ => exact X.tswIn (off := _) (tgt := _) pkL_law rfl (by decide) (by decide) rfl (by decide) (l_went hi hL hc0 hs0 hx hm r nx)
    | 26, _ => exact X.tswIn (off := _) (tgt := _) pkL_law rfl (by decide) (by decide) rfl (by decide) (l_undo hi hL hc0 hs0 hx hm r nx)
    | 27, _ => exact X.tswIn (off := _) (tgt := _) pkL_law rfl (by decide) (by decide) rfl (by decide) (l_image hi hL hc0 hs0 hx hm r nx)
    | 28, _ => exact X.tswIn (off := _) (tgt := _) pkL_law rfl (by decide) (by decide) rfl (by decide) (l_look hi hL hc0 hs0 hx hm r nx)
    | 29, _ => exact X.tswOut (tgt := 1107) pkL_law rfl (Or.inr (by decide)) (by decide) (X.widen (by omega) (by omega) (nx W M h z hx hm r))
    | 30, _ => exact X.tswOut (tgt := 1107) pkL_law rfl (Or.inr (by decide)) (by decide) (X.widen (by omega) (by omega) (nx W M h z hx hm r))
    | 31, _ => exact X.tswOut (tgt := 1107) pkL_law rfl (Or.inr (by decide)) (by decide) (X.widen (by omega) (by omega) (nx W M h z hx hm r))
    | t + 32, h => exact absurd h (by omega)
theorem dfM_ok : ∀ j, j < 50 → defaultValue (tyX3 j) = vp_V dfM j := fun j hj => by match j, hj with | 0, _ => exact rfl | 1, _ => exact rfl | 2, _ => exact rfl | 3, _ => exact rfl | 4, _ => exact rfl | 5, _ => exact rfl | 6, _ => exact rfl | 7, _ => exact rfl | 8, _ => exact rfl | 9, _ => exact rfl | 10, _ => exact rfl | 11, _ => exact rfl | 12, _ => exact rfl | 13, _ => exact rfl | 14, _ => exact rfl | 15, _ => exact rfl | 16, _ => exact rfl | 17, _ => exact rfl | 18, _ => exact rfl | 19, _ => exact rfl | 20, _ => exact rfl | 21, _ => exact rfl | 22, _ => exact rfl | 23, _ => exact rfl | 24, _ => exact rfl | 25, _ => exact rfl | 26, _ => exact rfl | 27, _ => exact rfl | 28, _ => exact rfl | 29, _ => exact rfl | 30, _ => exact rfl | 31, _ => exact rfl | 32, _ => exact rfl | 33, _ => exact rfl | 34, _ => exact rfl | 35, _ => exact rfl | 36, _ => exact rfl | 37, _ => exact rfl | 38, _ => exact rfl | 39, _ => exact rfl | 40, _ => exact rfl | 41, _ => exact rfl | 42, _ => exact rfl | 43, _ => exact rfl | 44, _ => exact rfl | 45, _ => exact rfl | 46, _ => exact rfl | 47, _ => exact rfl | 48, _ => exact rfl | 49, _ => exact rfl | n + 50, h => exact absurd h (by omega)
/-- from the entry, over the layer -/
theorem l_start (hl : l.stackTraces = false) (hL : L ≤ 384) {z : Nat} : X l G mL_law RMl (TGl G b L xs) 0 0 0 [(0, .ref b)] [] (fun _ => none) z := by
  refine X.bndS fun hN => ?_
  refine X.newO (ci := 0) (fs := xD) tyX0 pkL_law rfl in_X0 tyX0_ok q118 q119 q91 rfl xD_ok (by show 0 + 1 ≤ 601024; decide) (by show 0 + 12 ≤ 7293034; decide) ?_
  intro h1 e1
  refine X.walk wkL_law fnil RetOk.no ⟨by show 1 ≤ 601024; decide, by show 12 ≤ 7293034; decide⟩ [4] 1 rfl ?_
  refine X.callI (d' := 100) (As := []) (rest := [.ref z]) ckL_9 pkL_law rfl (x_init (d := 100) (by decide) hN (by rw [e1]; exact ahU_s) (P := fun v h' z' => v = none ∧ z' = z + 1959 ∧ IsX G z (W0 z) h') (fun h' q1 _ => ⟨rfl, rfl, q1⟩)) rfl rfl (Fit.K (by decide) (by decide) (by decide) (by decide)) (Nat.le_of_ble_eq_true rfl) ?_
  intro v h2 z2 hq
  obtain ⟨rfl, rfl, hx2⟩ := hq
  refine X.bnd fun hb2 => ?_
  refine X.walk wkL_law fnil RetOk.no ⟨by show 0 + 1 + 1958 ≤ 601024; decide, by show 0 + 12 + 20379 ≤ 7293034; decide⟩ [8] 1 rfl ?_
  refine X.newO (ci := 3) (fs := dfM) tyX3 pkL_law rfl in_X3 tyX3_ok q986 q987 q97 rfl dfM_ok (by show 0 + 1 + 1958 + 1 ≤ 601024; decide) (by show 0 + 12 + 20379 + 50 ≤ 7293034; decide) ?_
  intro h3 e3
  refine X.walk wkL_law fnil RetOk.no ⟨by show 0 + 1 + 1958 + 1 ≤ 601024; decide, by show 0 + 12 + 20379 + 50 ≤ 7293034; decide⟩ [12] 1 rfl ?_
  refine X.callI (d' := 100) (As := []) (rest := [.ref (z + 1959)]) ckL_12 pkL_law rfl (k_init l G 100 (by decide) (z + 1959) h3 (by omega) (by rw [e3]; exact ahU_s) (fun v h' z' => v = none ∧ z' = z + 1959 + 23 ∧ IsMod G (z + 1959) mod0 h' ∧ ∀ a, a < z + 1959 → h' a = h3 a) (fun h' q1 q2 => ⟨rfl, rfl, q1, q2⟩)) rfl rfl (Fit.K (by decide) (by decide) (by decide) (by decide)) (Nat.le_of_ble_eq_true rfl) ?_
  intro v h4 z4 hq
  obtain ⟨rfl, rfl, hm4, hf4⟩ := hq
  have hx4 : IsX G z (W0 z) h4 := hx2.grow (Nat.le_refl _) hb2 (fun a ha => by rw [hf4 a ha, e3, ahU_n (by omega)])
  refine X.walk wkL_law fnil RetOk.no ⟨by show 0 + 1 + 1958 + 1 + 22 ≤ 601024; decide, by show 0 + 12 + 20379 + 50 + 13687 ≤ 7293034; decide⟩ [18] 3 rfl ?_
  refine X.widen (cs' := 1982 + 861 * 0) (ss' := 40000 + 5366 * 0) (by decide) (by decide) ?_
  exact l_loop hl hL 64 0 (W0 z) mod0 h4 _ rfl (Nat.zero_le _) hx4 hm4 rel0
end LL9
