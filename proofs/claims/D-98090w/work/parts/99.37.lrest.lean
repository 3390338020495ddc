set_option maxRecDepth 100000
/-! THE LAW: text, wood, image -/
theorem IsMod.z {G : GG} {b z : Nat} {M : SS} {h : AH} (w : IsMod G b M h) (hb : ∀ (y : Nat) (e : va_E), h y = some e → y < z) : b + 22 < z := hb _ _ (w.arr 22 rfl)
theorem IsMod.frL {G : GG} {x z : Nat} {M : SS} {h h2 : AH} (w : IsMod G (x + 1959) M h) (hz : x + 1982 ≤ z) (f : ∀ a, a < z → ¬ InX x a → h2 a = h a) : IsMod G (x + 1959) M h2 := by
  refine w.fr (fun a h1 h2 => f a (by omega) ?_)
  intro q
  rcases q with q | q | q | q | ⟨j, o, hj, ho, -, q⟩
  · omega
  · omega
  · omega
  · omega
  · have := wb_in (x := x) hj; omega
section LS
variable {l : Launch} {G : GG} {b L x i cs ss z : Nat} {xs : Nat → Int32} {W : XW} {M : SS} {h : AH}
theorem l_text (hl : l.stackTraces = false) (hi : i + 6 ≤ L) (hL : L ≤ 384) (hc : cs + 861 ≤ 601024) (hs : ss + 5366 ≤ 7293034) (hx : IsX G x W h) (hm : IsMod G (x + 1959) M h) (r : RelX W M) (nx : LNx l G b L x i cs ss xs) : X l G mL_law RMl (TGl G b L xs) cs ss 547 (LOi b x i) [] h z := by
  obtain ⟨n, hn, hn1, hrd, hby⟩ := r.rdo
  unfold LOi
  refine X.bnd fun hb => ?_
  have hz : x + 1982 ≤ z := by have := hm.z hb; omega
  refine X.walk wkL_law fnil RetOk.no ⟨by show cs ≤ 601024; omega, by show ss ≤ 7293034; omega⟩ [548] 1 rfl ?_
  refine X.callVW (M' := mX0_text) (hh := hhT) (d' := 100) (mc' := MCr n + 1) (ms' := MSr n + 6) (n := 0) (As := []) (rest := []) q346 q349 q91 q347 q348 (by decide +kernel) pkL_law rfl (x_text (d := 100) (t := M 8) (n := n) hl (by decide) hx hz hn1 hn hby (P := fun v h' z' => ∃ v1 W1, v = some (.int v1) ∧ TxP (pTxt (M 8) n (n + 1) [] 0) W v1 W1 ∧ IsX G x W1 h' ∧ ∀ a, a < z → ¬ InX x a → h' a = h a) (fun v W' h' z' q1 q2 q3 => ⟨v, W', rfl, q1, q2, q3⟩)) hx.obj rfl rfl rfl ⟨by show 100 + 1 ≤ 2500; decide, by show 8 + (4 + 11) + 40 * 100 ≤ 40 * 2500; decide, by show cs + (MCr n + 1) ≤ 601024; unfold MCr; omega, by show ss + (MSr n + 6) ≤ 7293034; unfold MSr; omega⟩ (Nat.le_of_ble_eq_true rfl) ?_
  intro v h1 z1 hq
  obtain ⟨v1, W1, rfl, p1, hx1, hf1⟩ := hq
  have hm1 := hm.frL hz hf1
  refine X.walk wkL_law (fcons (ceV k_text mmW0 ckL_67 rfl mrW0 (Nat.le_of_ble_eq_true rfl) rfl) fnil) RetOk.no ⟨by show cs + (MCr n + 1) ≤ 601024; unfold MCr; omega, by show ss + (MSr n + 6) ≤ 7293034; unfold MSr; omega⟩ [1107, 558] 3 rfl ?_
  refine Exists.intro _ (Exists.intro n (And.intro hm1 (And.intro hrd ?_)))
  intro v2 M2 h2 p2 hm2 hf2
  have hx2 := hx1.frM hf2
  (try dsimp only at p2)
  obtain ⟨ev, r2⟩ : v1 = v2 ∧ RelX W1 M2 := j_text r p1 p2
  refine And.intro (fun _ => ?_) (fun b9 => absurd ev b9)
  exact X.widen (by unfold MCr; omega) (by unfold MSr; omega) (nx _ M2 h2 z1 hx2 hm2 r2)
theorem l_wood (hi : i + 6 ≤ L) (hL : L ≤ 384) (hc : cs + 861 ≤ 601024) (hs : ss + 5366 ≤ 7293034) (hx : IsX G x W h) (hm : IsMod G (x + 1959) M h) (r : RelX W M) (nx : LNx l G b L x i cs ss xs) : X l G mL_law RMl (TGl G b L xs) cs ss 187 (LOi b x i) [] h z := by
  unfold LOi
  refine X.bnd fun hb => ?_
  have hz : x + 1982 ≤ z := by have := hm.z hb; omega
  refine X.walk wkL_law fnil RetOk.no ⟨by show cs ≤ 601024; omega, by show ss ≤ 7293034; omega⟩ [192] 5 rfl ?_
  refine X.scr (j := i + 1) pkL_law rfl (ixS hi hL (by decide)) ?_
  refine X.walk wkL_law fnil RetOk.no ⟨by show cs ≤ 601024; omega, by show ss ≤ 7293034; omega⟩ [197] 4 rfl ?_
  refine X.scr (j := i + 2) pkL_law rfl (ixS hi hL (by decide)) ?_
  refine X.callV (d' := 100) (As := [.int (xs (i + 1)), .int (xs (i + 2))]) (rest := []) ckL_18 pkL_law rfl (x_wood (d := 100) (by decide) hx hz (P := fun v h' z' => ∃ v1 W1, v = some (.int v1) ∧ (((isInB (xs (i + 1)) 3 8 = true ∧ isInB (xs (i + 2)) 3 8 = true) ∧ v1 = 1 ∧ ∃ la, W1 = ((W.uS 0 (begF (W.S 0) (xs (i + 1)) (xs (i + 2)))).uL 0 la []).uF 8 0) ∨ (¬ (isInB (xs (i + 1)) 3 8 = true ∧ isInB (xs (i + 2)) 3 8 = true) ∧ v1 = 0 ∧ W1 = W)) ∧ IsX G x W1 h' ∧ ∀ a, a < z → ¬ InX x a → h' a = h a) (fun v W' h' z' q1 q2 q3 => ⟨v, W', rfl, q1, q2, q3⟩)) hx.obj rfl rfl rfl (Fit.K (by decide) (by decide) (by omega) (by omega)) (Nat.le_of_ble_eq_true rfl) ?_
  intro v h1 z1 hq
  obtain ⟨v1, W1, rfl, p1, hx1, hf1⟩ := hq
  have hm1 := hm.frL hz hf1
  refine X.walk wkL_law fnil RetOk.no ⟨by show cs + 1 ≤ 601024; omega, by show ss + 3 ≤ 7293034; omega⟩ [206] 5 rfl ?_
  refine X.scr (j := i + 1) pkL_law rfl (ixS hi hL (by decide)) ?_
  refine X.walk wkL_law fnil RetOk.no ⟨by show cs + 1 ≤ 601024; omega, by show ss + 3 ≤ 7293034; omega⟩ [211] 4 rfl ?_
  refine X.scr (j := i + 2) pkL_law rfl (ixS hi hL (by decide)) ?_
  refine X.walk wkL_law (fcons (ceV k_wood mmW2 ckL_22 rfl mrW2 (Nat.le_of_ble_eq_true rfl) rfl) fnil) RetOk.no ⟨by show cs + 1 ≤ 601024; omega, by show ss + 3 ≤ 7293034; omega⟩ [1107, 218] 2 rfl ?_
  refine Exists.intro _ (Exists.intro () (And.intro hm1 (And.intro trivial ?_)))
  intro v2 M2 h2 p2 hm2 hf2
  have hx2 := hx1.frM hf2
  (try dsimp only at p2)
  obtain ⟨ev, r2⟩ : v1 = v2 ∧ RelX W1 M2 := j_wood r p1 p2
  refine And.intro (fun _ => ?_) (fun b9 => absurd ev b9)
  exact X.widen (by omega) (by omega) (nx _ M2 h2 z1 hx2 hm2 r2)
theorem l_image (hi : i + 6 ≤ L) (hL : L ≤ 384) (hc : cs + 861 ≤ 601024) (hs : ss + 5366 ≤ 7293034) (hx : IsX G x W h) (hm : IsMod G (x + 1959) M h) (r : RelX W M) (nx : LNx l G b L x i cs ss xs) : X l G mL_law RMl (TGl G b L xs) cs ss 1045 (LOi b x i) [] h z := by
  obtain ⟨q, hq1, hq2, hq3⟩ := r.imgs
  unfold LOi
  have tail : ∀ t : Bool, (t = true ↔ ¬ xs (i + 1) = 0) → X l G mL_law RMl (TGl G b L xs) cs ss 1059 [(0, .ref b), (1, .ref x), (2, .ref (x + 1959)), (3, .int (nI i))] [.int (bI t), .ref x] h z := by
    intro t ht
    refine X.walk wkL_law (fcons (ceV x_image xmW1 ckL_131 rfl xrW1 (Nat.le_of_ble_eq_true rfl) rfl) fnil) RetOk.no ⟨by show cs ≤ 601024; omega, by show ss ≤ 7293034; omega⟩ [1067] 6 rfl ?_
    refine Exists.intro _ (Exists.intro (t, q) (And.intro hx (And.intro ⟨rfl, hq1, fun _ => r.bw, hq3⟩ ?_)))
    intro v1 W1 h1 p1 hx1 hf1
    have hm1 := hm.frX hf1
    (try dsimp only at p1)
    have tail2 : X l G mL_law RMl (TGl G b L xs) cs ss 1076 [(0, .ref b), (1, .ref x), (2, .ref (x + 1959)), (3, .int (nI i))] [.int (bI t), .ref (x + 1959), .int v1] h1 z := by
      refine X.walk wkL_law (fcons (ceV k_image mmW1 ckL_135 rfl mrW1 (Nat.le_of_ble_eq_true rfl) rfl) fnil) RetOk.no ⟨by show cs ≤ 601024; omega, by show ss ≤ 7293034; omega⟩ [1107, 1082] 2 rfl ?_
      refine Exists.intro _ (Exists.intro (t, q) (And.intro hm1 (And.intro ⟨rfl, hq2⟩ ?_)))
      intro v2 M2 h2 p2 hm2 hf2
      have hx2 := hx1.frM hf2
      (try dsimp only at p2)
      obtain ⟨ev, r2⟩ : v1 = v2 ∧ RelX W1 M2 := j_image r hq2 p1 p2
      refine And.intro (fun _ => ?_) (fun b9 => absurd ev b9)
      exact X.widen (by omega) (by omega) (nx _ M2 h2 z hx2 hm2 r2)
    refine X.scr (j := i + 1) pkL_law rfl (ixS hi hL (by decide)) ?_
    refine X.walk wkL_law fnil RetOk.no ⟨by show cs ≤ 601024; omega, by show ss ≤ 7293034; omega⟩ [1076] 3 rfl ?_
    refine And.intro (fun b9 => ?_) (fun b9 => ?_)
    · have b9 : xs (i + 1) = 0 := b9
      have e : t = false := by
        cases t with
        | false => rfl
        | true => exact absurd b9 (ht.mp rfl)
      subst e
      exact tail2
    · have b9 : ¬ xs (i + 1) = 0 := b9
      have e : t = true := ht.mpr b9
      subst e
      exact tail2
  refine X.walk wkL_law fnil RetOk.no ⟨by show cs ≤ 601024; omega, by show ss ≤ 7293034; omega⟩ [1050] 5 rfl ?_
  refine X.scr (j := i + 1) pkL_law rfl (ixS hi hL (by decide)) ?_
  refine X.walk wkL_law fnil RetOk.no ⟨by show cs ≤ 601024; omega, by show ss ≤ 7293034; omega⟩ [1059] 3 rfl ?_
  refine And.intro (fun b9 => ?_) (fun b9 => ?_)
  · have b9 : xs (i + 1) = 0 := b9
    exact tail false ⟨fun e => (by cases e), fun e => absurd b9 e⟩
  · have b9 : ¬ xs (i + 1) = 0 := b9
    exact tail true ⟨fun _ => b9, fun _ => rfl⟩
end LS
