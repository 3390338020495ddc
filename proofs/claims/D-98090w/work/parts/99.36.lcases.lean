set_option maxRecDepth 100000
/-! THE LAW: its calls, one by one -/
def LOi (b x i : Nat) : LL := [(0, .ref b), (1, .ref x), (2, .ref (x + 1959)), (3, .int (nI i))]
/-- behind a call that both have answered alike -/
def LNx (l : Launch) (G : GG) (b L x i cs ss : Nat) (xs : Nat → Int32) : Prop := ∀ (W : XW) (M : SS) (h : AH) (z : Nat), IsX G x W h → IsMod G (x + 1959) M h → RelX W M → X l G mL_law RMl (TGl G b L xs) (cs + 861) (ss + 5366) 1107 (LOi b x i) [] h z
theorem ixS {i k L : Nat} (hi : i + 6 ≤ L) (hL : L ≤ 384) (hk : k < 6) : IX (nI i + nI k) L (i + k) := by
  rw [nI_add]
  exact ixN (by omega) (by omega)
theorem l_state {l : Launch} {G : GG} {b L x i cs ss z : Nat} {xs : Nat → Int32} {W : XW} {M : SS} {h : AH} (hi : i + 6 ≤ L) (hL : L ≤ 384) (hc : cs + 861 ≤ 601024) (hs : ss + 5366 ≤ 7293034) (hx : IsX G x W h) (hm : IsMod G (x + 1959) M h) (r : RelX W M) (nx : LNx l G b L x i cs ss xs) : X l G mL_law RMl (TGl G b L xs) cs ss 164 (LOi b x i) [] h z := by
  unfold LOi
  refine X.walk wkL_law fnil RetOk.no ⟨by show cs ≤ 601024; omega, by show ss ≤ 7293034; omega⟩ [169] 5 rfl ?_
  refine X.scr (j := i + 1) pkL_law rfl (ixS hi hL (by decide)) ?_
  refine X.walk wkL_law (fcons (ceV x_state xmW1 ckL_13 rfl xrW1 (Nat.le_of_ble_eq_true rfl) rfl) fnil) RetOk.no ⟨by show cs ≤ 601024; omega, by show ss ≤ 7293034; omega⟩ [178] 6 rfl ?_
  refine Exists.intro _ (Exists.intro () (And.intro hx (And.intro trivial ?_)))
  intro v1 W1 h1 p1 hx1 hf1
  have hm1 := hm.frX hf1
  (try dsimp only at p1)
  refine X.scr (j := i + 1) pkL_law rfl (ixS hi hL (by decide)) ?_
  refine X.walk wkL_law (fcons (ceV k_state mmW1 ckL_17 rfl mrW1 (Nat.le_of_ble_eq_true rfl) rfl) fnil) RetOk.no ⟨by show cs ≤ 601024; omega, by show ss ≤ 7293034; omega⟩ [1107, 185] 2 rfl ?_
  refine Exists.intro _ (Exists.intro () (And.intro hm1 (And.intro trivial ?_)))
  intro v2 M2 h2 p2 hm2 hf2
  have hx2 := hx1.frM hf2
  (try dsimp only at p2)
  obtain ⟨ev, r2⟩ : v1 = v2 ∧ RelX W1 M2 := j_state r p1 p2
  refine And.intro (fun _ => ?_) (fun b9 => absurd ev b9)
  exact X.widen (by omega) (by omega) (nx _ M2 h2 z hx2 hm2 r2)
theorem l_damp {l : Launch} {G : GG} {b L x i cs ss z : Nat} {xs : Nat → Int32} {W : XW} {M : SS} {h : AH} (hi : i + 6 ≤ L) (hL : L ≤ 384) (hc : cs + 861 ≤ 601024) (hs : ss + 5366 ≤ 7293034) (hx : IsX G x W h) (hm : IsMod G (x + 1959) M h) (r : RelX W M) (nx : LNx l G b L x i cs ss xs) : X l G mL_law RMl (TGl G b L xs) cs ss 220 (LOi b x i) [] h z := by
  unfold LOi
  refine X.walk wkL_law fnil RetOk.no ⟨by show cs ≤ 601024; omega, by show ss ≤ 7293034; omega⟩ [225] 5 rfl ?_
  refine X.scr (j := i + 1) pkL_law rfl (ixS hi hL (by decide)) ?_
  refine X.walk wkL_law fnil RetOk.no ⟨by show cs ≤ 601024; omega, by show ss ≤ 7293034; omega⟩ [230] 4 rfl ?_
  refine X.scr (j := i + 2) pkL_law rfl (ixS hi hL (by decide)) ?_
  refine X.walk wkL_law (fcons (ceV x_damp xmW2 ckL_23 rfl xrW2 (Nat.le_of_ble_eq_true rfl) rfl) fnil) RetOk.no ⟨by show cs ≤ 601024; omega, by show ss ≤ 7293034; omega⟩ [239] 6 rfl ?_
  refine Exists.intro _ (Exists.intro () (And.intro hx (And.intro trivial ?_)))
  intro v1 W1 h1 p1 hx1 hf1
  have hm1 := hm.frX hf1
  (try dsimp only at p1)
  refine X.scr (j := i + 1) pkL_law rfl (ixS hi hL (by decide)) ?_
  refine X.walk wkL_law fnil RetOk.no ⟨by show cs ≤ 601024; omega, by show ss ≤ 7293034; omega⟩ [244] 4 rfl ?_
  refine X.scr (j := i + 2) pkL_law rfl (ixS hi hL (by decide)) ?_
  refine X.walk wkL_law (fcons (ceV k_damp mmW2 ckL_26 rfl mrW2 (Nat.le_of_ble_eq_true rfl) rfl) fnil) RetOk.no ⟨by show cs ≤ 601024; omega, by show ss ≤ 7293034; omega⟩ [1107, 251] 2 rfl ?_
  refine Exists.intro _ (Exists.intro () (And.intro hm1 (And.intro r.sq ?_)))
  intro v2 M2 h2 p2 hm2 hf2
  have hx2 := hx1.frM hf2
  (try dsimp only at p2)
  obtain ⟨ev, r2⟩ : v1 = v2 ∧ RelX W1 M2 := j_damp r p1 p2
  refine And.intro (fun _ => ?_) (fun b9 => absurd ev b9)
  exact X.widen (by omega) (by omega) (nx _ M2 h2 z hx2 hm2 r2)
theorem l_fault {l : Launch} {G : GG} {b L x i cs ss z : Nat} {xs : Nat → Int32} {W : XW} {M : SS} {h : AH} (hi : i + 6 ≤ L) (hL : L ≤ 384) (hc : cs + 861 ≤ 601024) (hs : ss + 5366 ≤ 7293034) (hx : IsX G x W h) (hm : IsMod G (x + 1959) M h) (r : RelX W M) (nx : LNx l G b L x i cs ss xs) : X l G mL_law RMl (TGl G b L xs) cs ss 560 (LOi b x i) [] h z := by
  unfold LOi
  refine X.walk wkL_law fnil RetOk.no ⟨by show cs ≤ 601024; omega, by show ss ≤ 7293034; omega⟩ [565] 5 rfl ?_
  refine X.scr (j := i + 1) pkL_law rfl (ixS hi hL (by decide)) ?_
  refine X.walk wkL_law (fcons (ceV x_fault xmR1 ckL_68 rfl xrR1 (Nat.le_of_ble_eq_true rfl) rfl) fnil) RetOk.no ⟨by show cs ≤ 601024; omega, by show ss ≤ 7293034; omega⟩ [574] 6 rfl ?_
  refine Exists.intro _ (Exists.intro () (And.intro hx (And.intro trivial ?_)))
  intro v1 p1
  have hm1 := hm
  have hx1 := hx
  (try dsimp only at p1)
  refine X.scr (j := i + 1) pkL_law rfl (ixS hi hL (by decide)) ?_
  refine X.walk wkL_law (fcons (ceV k_fault mmW1 ckL_71 rfl mrW1 (Nat.le_of_ble_eq_true rfl) rfl) fnil) RetOk.no ⟨by show cs ≤ 601024; omega, by show ss ≤ 7293034; omega⟩ [1107, 581] 2 rfl ?_
  refine Exists.intro _ (Exists.intro () (And.intro hm1 (And.intro trivial ?_)))
  intro v2 M2 h2 p2 hm2 hf2
  have hx2 := hx1.frM hf2
  (try dsimp only at p2)
  obtain ⟨ev, r2⟩ : v1 = v2 ∧ RelX W M2 := ⟨(p1.trans (j_fault r)).trans p2.1.symm, by rw [p2.2]; exact r.tl⟩
  refine And.intro (fun _ => ?_) (fun b9 => absurd ev b9)
  exact X.widen (by omega) (by omega) (nx _ M2 h2 z hx2 hm2 r2)
