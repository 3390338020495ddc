set_option maxRecDepth 100000
/-! THE LAW: its calls, one by one -/
def LOi (b x i : Nat) : LL := [(0, .ref b), (1, .ref x), (2, .ref (x + 1959)), (3, .int (nI i))]
/-- behind a call that both have answered alike -/
def LNx (l : Launch) (G : GG) (b L x i cs ss : Nat) (xs : Nat → Int32) : Prop := ∀ (W : XW) (M : SS) (h : AH) (z : Nat), IsX G x W h → IsMod G (x + 1959) M h → RelX W M → X l G mL_law RMl (TGl G b L xs) (cs + 861) (ss + 5366) 1107 (LOi b x i) [] h z
theorem ixS {i k L : Nat} (hi : i + 6 ≤ L) (hL : L ≤ 384) (hk : k < 6) : IX (nI i + nI k) L (i + k) := by
  rw [nI_add]
  exact ixN (by omega) (by omega)
theorem l_state {l : Launch} {G : GG} {b L x i cs ss z : Nat} {xs : Nat → Int32} {W : XW} {M : SS} {h : AH} (hi : i + 6 ≤ L) (hL : L ≤ 384) (hc : cs + 861 ≤ 601024) (hs : ss + 5366 ≤ 7293034) (hx : IsX G x W h) (hm : IsMod G (x + 1959) M h) (r : RelX W M) (nx : LNx l G b L x i cs ss xs) : X l G mL_law RMl (TGl G b L xs) cs ss 164 (LOi b x i) [] h z := by
  unfold LOi
  refine X.walk wkL_law fnil RetOk.no ⟨by show cs ≤ 601024; omega, by show ss ≤ 7293034; omega⟩ [169] 5 rfl ?_
  refine X.scr (j := i + 1) pkL_law rfl (ixS hi hL (by decide)) ?_
  refine X.walk wkL_law (fcons (ceV x_state xmW1 ckL_13 rfl xrW1 (Nat.le_of_ble_eq_true rfl) rfl) fnil) RetOk.no ⟨by show cs ≤ 601024; omega, by show ss ≤ 7293034; omega⟩ [178] 6 rfl ?_
  refine Exists.intro _ (Exists.intro () (And.intro hx (And.intro trivial ?_)))
  intro v1 W1 h1 p1 hx1 hf1
  have hm1 := hm.frX hf1
  (try dsimp only at p1)
  refine X.scr (j := i + 1) pkL_law rfl (ixS hi hL (by decide)) ?_
  refine X.walk wkL_law (fcons (ceV k_state mmW1 ckL_17 rfl mrW1 (Nat.le_of_ble_eq_true rfl) rfl) fnil) RetOk.no ⟨by show cs ≤ 601024; omega, by show ss ≤ 7293034; omega⟩ [1107, 185] 2 rfl ?_
  refine Exists.intro _ (Exists.intro () (And.intro hm1 (And.intro trivial ?_)))
  intro v2 M2 h2 p2 hm2 hf2
  have hx2 := hx1.frM hf2
  (try dsimp only at p2)
  obtain ⟨ev, r2⟩ : v1 = v2 ∧ RelX W1 M2 := j_state r p1 p2
  refine And.intro (fun _ => ?_) (fun b9 => absurd ev b9)
  exact X.widen (by omega) (by omega) (nx _ M2 h2 z hx2 hm2 r2)
theorem l_damp {l : Launch} {G : GG} {b L x i cs ss z : Nat} {xs : Nat → Int32} {W : XW} {M : SS} {h : AH} (hi : i + 6 ≤ L) (hL : L ≤ 384) (hc : cs + 861 ≤ 601024) (hs : ss + 5366 ≤ 7293034) (hx : IsX G x W h) (hm : IsMod G (x + 1959) M h) (r : RelX W M) (nx : LNx l G b L x i cs ss xs) : X l G mL_law RMl (TGl G b L xs) cs ss 220 (LOi b x i) [] h z := by
  unfold LOi
  refine X.walk wkL_law fnil RetOk.no ⟨by show cs ≤ 601024; omega, by show ss ≤ 7293034; omega⟩ [225] 5 rfl ?_
  refine X.scr (j := i + 1) pkL_law rfl (ixS hi hL (by decide)) ?_
  refine X.walk wkL_law fnil RetOk.no ⟨by show cs ≤ 601024; omega, by show ss ≤ 7293034; omega⟩ [230] 4 rfl ?_
  refine X.scr (j := i + 2) pkL_law rfl (ixS hi hL (by decide)) ?_
  refine X.walk wkL_law (fcons (ceV x_damp xmW2 ckL_23 rfl xrW2 (Nat.le_of_ble_eq_true rfl) rfl) fnil) RetOk.no ⟨by show cs ≤ 601024; omega, by show ss ≤ 7293034; omega⟩ [239] 6 rfl ?_
  refine Exists.intro _ (Exists.intro () (And.intro hx (And.intro trivial ?_)))
  intro v1 W1 h1 p1 hx1 hf1
  have hm1 := hm.frX hf1
  (try dsimp only at p1)
  refine X.scr (j := i + 1) pkL_law rfl (ixS hi hL (by decide)) ?_
  refine X.walk wkL_law fnil RetOk.no ⟨by show cs ≤ 601024; omega, by show ss ≤ 7293034; omega⟩ [244] 4 rfl ?_
  refine X.scr (j := i + 2) pkL_law rfl (ixS hi hL (by decide)) ?_
  refine X.walk wkL_law (fcons (ceV k_damp mmW2 ckL_26 rfl mrW2 (Nat.le_of_ble_eq_true rfl) rfl) fnil) RetOk.no ⟨by show cs ≤ 601024; omega, by show ss ≤ 7293034; omega⟩ [1107, 251] 2 rfl ?_
  refine Exists.intro _ (Exists.intro () (And.intro hm1 (And.intro r.sq ?_)))
  intro v2 M2 h2 p2 hm2 hf2
  have hx2 := hx1.frM hf2
  (try dsimp only at p2)
  obtain ⟨ev, r2⟩ : v1 = v2 ∧ RelX W1 M2 := j_damp r p1 p2
  refine And.intro (fun _ => ?_) (fun b9 => absurd ev b9)
  exact X.widen (by omega) (by omega) (nx _ M2 h2 z hx2 hm2 r2)
theorem l_word {l : Launch} {G : GG} {b L x i cs ss z : Nat} {xs : Nat → Int32} {W : XW} {M : SS} {h : AH} (hi : i + 6 ≤ L) (hL : L ≤ 384) (hc : cs + 861 ≤ 601024) (hs : ss + 5366 ≤ 7293034) (hx : IsX G x W h) (hm : IsMod G (x + 1959) M h) (r : RelX W M) (nx : LNx l G b L x i cs ss xs) : X l G mL_law RMl (TGl G b L xs) cs ss 253 (LOi b x i) [] h z := by
  unfold LOi
  refine X.walk wkL_law fnil RetOk.no ⟨by show cs ≤ 601024; omega, by show ss ≤ 7293034; omega⟩ [258] 5 rfl ?_
  refine X.scr (j := i + 1) pkL_law rfl (ixS hi hL (by decide)) ?_
  refine X.walk wkL_law fnil RetOk.no ⟨by show cs ≤ 601024; omega, by show ss ≤ 7293034; omega⟩ [263] 4 rfl ?_
  refine X.scr (j := i + 2) pkL_law rfl (ixS hi hL (by decide)) ?_
  refine X.walk wkL_law fnil RetOk.no ⟨by show cs ≤ 601024; omega, by show ss ≤ 7293034; omega⟩ [268] 4 rfl ?_
  refine X.scr (j := i + 3) pkL_law rfl (ixS hi hL (by decide)) ?_
  refine X.walk wkL_law (fcons (ceV x_word3 xmW3 ckL_27 rfl xrW3 (Nat.le_of_ble_eq_true rfl) rfl) fnil) RetOk.no ⟨by show cs ≤ 601024; omega, by show ss ≤ 7293034; omega⟩ [277] 6 rfl ?_
  refine Exists.intro _ (Exists.intro () (And.intro hx (And.intro (r.w.1 3) ?_)))
  intro v1 W1 h1 p1 hx1 hf1
  have hm1 := hm.frX hf1
  (try dsimp only at p1)
  refine X.scr (j := i + 1) pkL_law rfl (ixS hi hL (by decide)) ?_
  refine X.walk wkL_law fnil RetOk.no ⟨by show cs ≤ 601024; omega, by show ss ≤ 7293034; omega⟩ [282] 4 rfl ?_
  refine X.scr (j := i + 2) pkL_law rfl (ixS hi hL (by decide)) ?_
  refine X.walk wkL_law fnil RetOk.no ⟨by show cs ≤ 601024; omega, by show ss ≤ 7293034; omega⟩ [287] 4 rfl ?_
  refine X.scr (j := i + 3) pkL_law rfl (ixS hi hL (by decide)) ?_
  refine X.walk wkL_law (fcons (ceV k_word mmW3 ckL_31 rfl mrW3 (Nat.le_of_ble_eq_true rfl) rfl) fnil) RetOk.no ⟨by show cs ≤ 601024; omega, by show ss ≤ 7293034; omega⟩ [1107, 294] 2 rfl ?_
  refine Exists.intro _ (Exists.intro () (And.intro hm1 (And.intro r.b8 ?_)))
  intro v2 M2 h2 p2 hm2 hf2
  have hx2 := hx1.frM hf2
  (try dsimp only at p2)
  obtain ⟨ev, r2⟩ : v1 = v2 ∧ RelX W1 M2 := j_word r p1 p2
  refine And.intro (fun _ => ?_) (fun b9 => absurd ev b9)
  exact X.widen (by omega) (by omega) (nx _ M2 h2 z hx2 hm2 r2)
theorem l_person {l : Launch} {G : GG} {b L x i cs ss z : Nat} {xs : Nat → Int32} {W : XW} {M : SS} {h : AH} (hi : i + 6 ≤ L) (hL : L ≤ 384) (hc : cs + 861 ≤ 601024) (hs : ss + 5366 ≤ 7293034) (hx : IsX G x W h) (hm : IsMod G (x + 1959) M h) (r : RelX W M) (nx : LNx l G b L x i cs ss xs) : X l G mL_law RMl (TGl G b L xs) cs ss 296 (LOi b x i) [] h z := by
  unfold LOi
  refine X.walk wkL_law fnil RetOk.no ⟨by show cs ≤ 601024; omega, by show ss ≤ 7293034; omega⟩ [301] 5 rfl ?_
  refine X.scr (j := i + 1) pkL_law rfl (ixS hi hL (by decide)) ?_
  refine X.walk wkL_law (fcons (ceV x_person xmW1 ckL_32 rfl xrW1 (Nat.le_of_ble_eq_true rfl) rfl) fnil) RetOk.no ⟨by show cs ≤ 601024; omega, by show ss ≤ 7293034; omega⟩ [310] 6 rfl ?_
  refine Exists.intro _ (Exists.intro () (And.intro hx (And.intro (r.w.1 4) ?_)))
  intro v1 W1 h1 p1 hx1 hf1
  have hm1 := hm.frX hf1
  (try dsimp only at p1)
  refine X.scr (j := i + 1) pkL_law rfl (ixS hi hL (by decide)) ?_
  refine X.walk wkL_law (fcons (ceV k_person mmW1 ckL_35 rfl mrW1 (Nat.le_of_ble_eq_true rfl) rfl) fnil) RetOk.no ⟨by show cs ≤ 601024; omega, by show ss ≤ 7293034; omega⟩ [1107, 317] 2 rfl ?_
  refine Exists.intro _ (Exists.intro () (And.intro hm1 (And.intro r.b12 ?_)))
  intro v2 M2 h2 p2 hm2 hf2
  have hx2 := hx1.frM hf2
  (try dsimp only at p2)
  obtain ⟨ev, r2⟩ : v1 = v2 ∧ RelX W1 M2 := j_person r p1 p2
  refine And.intro (fun _ => ?_) (fun b9 => absurd ev b9)
  exact X.widen (by omega) (by omega) (nx _ M2 h2 z hx2 hm2 r2)
theorem l_set {l : Launch} {G : GG} {b L x i cs ss z : Nat} {xs : Nat → Int32} {W : XW} {M : SS} {h : AH} (hi : i + 6 ≤ L) (hL : L ≤ 384) (hc : cs + 861 ≤ 601024) (hs : ss + 5366 ≤ 7293034) (hx : IsX G x W h) (hm : IsMod G (x + 1959) M h) (r : RelX W M) (nx : LNx l G b L x i cs ss xs) : X l G mL_law RMl (TGl G b L xs) cs ss 319 (LOi b x i) [] h z := by
  unfold LOi
  refine X.walk wkL_law fnil RetOk.no ⟨by show cs ≤ 601024; omega, by show ss ≤ 7293034; omega⟩ [324] 5 rfl ?_
  refine X.scr (j := i + 1) pkL_law rfl (ixS hi hL (by decide)) ?_
  refine X.walk wkL_law fnil RetOk.no ⟨by show cs ≤ 601024; omega, by show ss ≤ 7293034; omega⟩ [329] 4 rfl ?_
  refine X.scr (j := i + 2) pkL_law rfl (ixS hi hL (by decide)) ?_
  refine X.walk wkL_law (fcons (ceV x_set xmW2 ckL_36 rfl xrW2 (Nat.le_of_ble_eq_true rfl) rfl) fnil) RetOk.no ⟨by show cs ≤ 601024; omega, by show ss ≤ 7293034; omega⟩ [338] 6 rfl ?_
  refine Exists.intro _ (Exists.intro () (And.intro hx (And.intro trivial ?_)))
  intro v1 W1 h1 p1 hx1 hf1
  have hm1 := hm.frX hf1
  (try dsimp only at p1)
  refine X.scr (j := i + 1) pkL_law rfl (ixS hi hL (by decide)) ?_
  refine X.walk wkL_law fnil RetOk.no ⟨by show cs ≤ 601024; omega, by show ss ≤ 7293034; omega⟩ [343] 4 rfl ?_
  refine X.scr (j := i + 2) pkL_law rfl (ixS hi hL (by decide)) ?_
  refine X.walk wkL_law (fcons (ceV k_set mmW2 ckL_39 rfl mrW2 (Nat.le_of_ble_eq_true rfl) rfl) fnil) RetOk.no ⟨by show cs ≤ 601024; omega, by show ss ≤ 7293034; omega⟩ [1107, 350] 2 rfl ?_
  refine Exists.intro _ (Exists.intro () (And.intro hm1 (And.intro trivial ?_)))
  intro v2 M2 h2 p2 hm2 hf2
  have hx2 := hx1.frM hf2
  (try dsimp only at p2)
  obtain ⟨ev, r2⟩ : v1 = v2 ∧ RelX W1 M2 := j_set r p1 p2
  refine And.intro (fun _ => ?_) (fun b9 => absurd ev b9)
  exact X.widen (by omega) (by omega) (nx _ M2 h2 z hx2 hm2 r2)
theorem l_go {l : Launch} {G : GG} {b L x i cs ss z : Nat} {xs : Nat → Int32} {W : XW} {M : SS} {h : AH} (hi : i + 6 ≤ L) (hL : L ≤ 384) (hc : cs + 861 ≤ 601024) (hs : ss + 5366 ≤ 7293034) (hx : IsX G x W h) (hm : IsMod G (x + 1959) M h) (r : RelX W M) (nx : LNx l G b L x i cs ss xs) : X l G mL_law RMl (TGl G b L xs) cs ss 352 (LOi b x i) [] h z := by
  obtain ⟨u, hu, hu8, hu3⟩ := r.undo
  unfold LOi
  refine X.walk wkL_law fnil RetOk.no ⟨by show cs ≤ 601024; omega, by show ss ≤ 7293034; omega⟩ [357] 5 rfl ?_
  refine X.scr (j := i + 1) pkL_law rfl (ixS hi hL (by decide)) ?_
  refine X.walk wkL_law fnil RetOk.no ⟨by show cs ≤ 601024; omega, by show ss ≤ 7293034; omega⟩ [362] 4 rfl ?_
  refine X.scr (j := i + 2) pkL_law rfl (ixS hi hL (by decide)) ?_
  refine X.walk wkL_law fnil RetOk.no ⟨by show cs ≤ 601024; omega, by show ss ≤ 7293034; omega⟩ [367] 4 rfl ?_
  refine X.scr (j := i + 3) pkL_law rfl (ixS hi hL (by decide)) ?_
  refine X.walk wkL_law (fcons (ceV x_go xmW3 ckL_40 rfl xrW3 (Nat.le_of_ble_eq_true rfl) rfl) fnil) RetOk.no ⟨by show cs ≤ 601024; omega, by show ss ≤ 7293034; omega⟩ [376] 6 rfl ?_
  refine Exists.intro _ (Exists.intro (tl M, u) (And.intro hx (And.intro ⟨r.tl, hu3, hu⟩ ?_)))
  intro v1 W1 h1 p1 hx1 hf1
  have hm1 := hm.frX hf1
  (try dsimp only at p1)
  refine X.scr (j := i + 1) pkL_law rfl (ixS hi hL (by decide)) ?_
  refine X.walk wkL_law fnil RetOk.no ⟨by show cs ≤ 601024; omega, by show ss ≤ 7293034; omega⟩ [381] 4 rfl ?_
  refine X.scr (j := i + 2) pkL_law rfl (ixS hi hL (by decide)) ?_
  refine X.walk wkL_law fnil RetOk.no ⟨by show cs ≤ 601024; omega, by show ss ≤ 7293034; omega⟩ [386] 4 rfl ?_
  refine X.scr (j := i + 3) pkL_law rfl (ixS hi hL (by decide)) ?_
  refine X.walk wkL_law (fcons (ceV k_go mmW3 ckL_44 rfl mrW3 (Nat.le_of_ble_eq_true rfl) rfl) fnil) RetOk.no ⟨by show cs ≤ 601024; omega, by show ss ≤ 7293034; omega⟩ [1107, 393] 2 rfl ?_
  refine Exists.intro _ (Exists.intro u (And.intro hm1 (And.intro (r.aco hu3 hu) ?_)))
  intro v2 M2 h2 p2 hm2 hf2
  have hx2 := hx1.frM hf2
  (try dsimp only at p2)
  obtain ⟨ev, r2⟩ : v1 = v2 ∧ RelX W1 M2 := j_go r hu3 hu hx.p1 hx.p2 p1 p2
  refine And.intro (fun _ => ?_) (fun b9 => absurd ev b9)
  exact X.widen (by omega) (by omega) (nx _ M2 h2 z hx2 hm2 r2)
theorem l_breaks {l : Launch} {G : GG} {b L x i cs ss z : Nat} {xs : Nat → Int32} {W : XW} {M : SS} {h : AH} (hi : i + 6 ≤ L) (hL : L ≤ 384) (hc : cs + 861 ≤ 601024) (hs : ss + 5366 ≤ 7293034) (hx : IsX G x W h) (hm : IsMod G (x + 1959) M h) (r : RelX W M) (nx : LNx l G b L x i cs ss xs) : X l G mL_law RMl (TGl G b L xs) cs ss 395 (LOi b x i) [] h z := by
  obtain ⟨u, hu, hu8, hu3⟩ := r.undo
  unfold LOi
  refine X.walk wkL_law fnil RetOk.no ⟨by show cs ≤ 601024; omega, by show ss ≤ 7293034; omega⟩ [400] 5 rfl ?_
  refine X.scr (j := i + 1) pkL_law rfl (ixS hi hL (by decide)) ?_
  refine X.walk wkL_law fnil RetOk.no ⟨by show cs ≤ 601024; omega, by show ss ≤ 7293034; omega⟩ [405] 4 rfl ?_
  refine X.scr (j := i + 2) pkL_law rfl (ixS hi hL (by decide)) ?_
  refine X.walk wkL_law (fcons (ceV x_breaks xmW2 ckL_45 rfl xrW2 (Nat.le_of_ble_eq_true rfl) rfl) fnil) RetOk.no ⟨by show cs ≤ 601024; omega, by show ss ≤ 7293034; omega⟩ [414] 6 rfl ?_
  refine Exists.intro _ (Exists.intro (tl M, u) (And.intro hx (And.intro ⟨r.tl, hu3, hu⟩ ?_)))
  intro v1 W1 h1 p1 hx1 hf1
  have hm1 := hm.frX hf1
  (try dsimp only at p1)
  refine X.scr (j := i + 1) pkL_law rfl (ixS hi hL (by decide)) ?_
  refine X.walk wkL_law fnil RetOk.no ⟨by show cs ≤ 601024; omega, by show ss ≤ 7293034; omega⟩ [419] 4 rfl ?_
  refine X.scr (j := i + 2) pkL_law rfl (ixS hi hL (by decide)) ?_
  refine X.walk wkL_law (fcons (ceV k_breaks mmW2 ckL_48 rfl mrW2 (Nat.le_of_ble_eq_true rfl) rfl) fnil) RetOk.no ⟨by show cs ≤ 601024; omega, by show ss ≤ 7293034; omega⟩ [1107, 426] 2 rfl ?_
  refine Exists.intro _ (Exists.intro u (And.intro hm1 (And.intro (r.aco hu3 hu) ?_)))
  intro v2 M2 h2 p2 hm2 hf2
  have hx2 := hx1.frM hf2
  (try dsimp only at p2)
  obtain ⟨ev, r2⟩ : v1 = v2 ∧ RelX W1 M2 := j_breaks r hu3 hu hx.p1 hx.p2 p1 p2
  refine And.intro (fun _ => ?_) (fun b9 => absurd ev b9)
  exact X.widen (by omega) (by omega) (nx _ M2 h2 z hx2 hm2 r2)
theorem l_act {l : Launch} {G : GG} {b L x i cs ss z : Nat} {xs : Nat → Int32} {W : XW} {M : SS} {h : AH} (hi : i + 6 ≤ L) (hL : L ≤ 384) (hc : cs + 861 ≤ 601024) (hs : ss + 5366 ≤ 7293034) (hx : IsX G x W h) (hm : IsMod G (x + 1959) M h) (r : RelX W M) (nx : LNx l G b L x i cs ss xs) : X l G mL_law RMl (TGl G b L xs) cs ss 428 (LOi b x i) [] h z := by
  obtain ⟨u, hu, hu8, hu3⟩ := r.undo
  unfold LOi
  refine X.walk wkL_law fnil RetOk.no ⟨by show cs ≤ 601024; omega, by show ss ≤ 7293034; omega⟩ [433] 5 rfl ?_
  refine X.scr (j := i + 1) pkL_law rfl (ixS hi hL (by decide)) ?_
  refine X.walk wkL_law fnil RetOk.no ⟨by show cs ≤ 601024; omega, by show ss ≤ 7293034; omega⟩ [438] 4 rfl ?_
  refine X.scr (j := i + 2) pkL_law rfl (ixS hi hL (by decide)) ?_
  refine X.walk wkL_law (fcons (ceV x_act xmW2 ckL_49 rfl xrW2 (Nat.le_of_ble_eq_true rfl) rfl) fnil) RetOk.no ⟨by show cs ≤ 601024; omega, by show ss ≤ 7293034; omega⟩ [447] 6 rfl ?_
  refine Exists.intro _ (Exists.intro (tl M, u) (And.intro hx (And.intro ⟨r.tl, hu3, hu⟩ ?_)))
  intro v1 W1 h1 p1 hx1 hf1
  have hm1 := hm.frX hf1
  (try dsimp only at p1)
  refine X.scr (j := i + 1) pkL_law rfl (ixS hi hL (by decide)) ?_
  refine X.walk wkL_law fnil RetOk.no ⟨by show cs ≤ 601024; omega, by show ss ≤ 7293034; omega⟩ [452] 4 rfl ?_
  refine X.scr (j := i + 2) pkL_law rfl (ixS hi hL (by decide)) ?_
  refine X.walk wkL_law (fcons (ceV k_act mmW2 ckL_52 rfl mrW2 (Nat.le_of_ble_eq_true rfl) rfl) fnil) RetOk.no ⟨by show cs ≤ 601024; omega, by show ss ≤ 7293034; omega⟩ [1107, 459] 2 rfl ?_
  refine Exists.intro _ (Exists.intro u (And.intro hm1 (And.intro ⟨r.aco hu3 hu, r.acw⟩ ?_)))
  intro v2 M2 h2 p2 hm2 hf2
  have hx2 := hx1.frM hf2
  (try dsimp only at p2)
  obtain ⟨ev, r2⟩ : v1 = v2 ∧ RelX W1 M2 := j_act r hu3 hu hx.p1 hx.p2 p1 p2
  refine And.intro (fun _ => ?_) (fun b9 => absurd ev b9)
  exact X.widen (by omega) (by omega) (nx _ M2 h2 z hx2 hm2 r2)
theorem l_feed {l : Launch} {G : GG} {b L x i cs ss z : Nat} {xs : Nat → Int32} {W : XW} {M : SS} {h : AH} (hi : i + 6 ≤ L) (hL : L ≤ 384) (hc : cs + 861 ≤ 601024) (hs : ss + 5366 ≤ 7293034) (hx : IsX G x W h) (hm : IsMod G (x + 1959) M h) (r : RelX W M) (nx : LNx l G b L x i cs ss xs) : X l G mL_law RMl (TGl G b L xs) cs ss 461 (LOi b x i) [] h z := by
  obtain ⟨n, hn, hn1, hrd, -⟩ := r.rdo
  unfold LOi
  refine X.walk wkL_law fnil RetOk.no ⟨by show cs ≤ 601024; omega, by show ss ≤ 7293034; omega⟩ [466] 5 rfl ?_
  refine X.scr (j := i + 1) pkL_law rfl (ixS hi hL (by decide)) ?_
  refine X.walk wkL_law fnil RetOk.no ⟨by show cs ≤ 601024; omega, by show ss ≤ 7293034; omega⟩ [471] 4 rfl ?_
  refine X.scr (j := i + 2) pkL_law rfl (ixS hi hL (by decide)) ?_
  refine X.walk wkL_law fnil RetOk.no ⟨by show cs ≤ 601024; omega, by show ss ≤ 7293034; omega⟩ [476] 4 rfl ?_
  refine X.scr (j := i + 3) pkL_law rfl (ixS hi hL (by decide)) ?_
  refine X.walk wkL_law fnil RetOk.no ⟨by show cs ≤ 601024; omega, by show ss ≤ 7293034; omega⟩ [481] 4 rfl ?_
  refine X.scr (j := i + 4) pkL_law rfl (ixS hi hL (by decide)) ?_
  refine X.walk wkL_law fnil RetOk.no ⟨by show cs ≤ 601024; omega, by show ss ≤ 7293034; omega⟩ [486] 4 rfl ?_
  refine X.scr (j := i + 5) pkL_law rfl (ixS hi hL (by decide)) ?_
  refine X.walk wkL_law (fcons (ceV x_feed xmW5 ckL_53 rfl xrW5 (Nat.le_of_ble_eq_true rfl) rfl) fnil) RetOk.no ⟨by show cs ≤ 601024; omega, by show ss ≤ 7293034; omega⟩ [495] 6 rfl ?_
  refine Exists.intro _ (Exists.intro n (And.intro hx (And.intro ⟨hn1, hn⟩ ?_)))
  intro v1 W1 h1 p1 hx1 hf1
  have hm1 := hm.frX hf1
  (try dsimp only at p1)
  refine X.scr (j := i + 1) pkL_law rfl (ixS hi hL (by decide)) ?_
  refine X.walk wkL_law fnil RetOk.no ⟨by show cs ≤ 601024; omega, by show ss ≤ 7293034; omega⟩ [500] 4 rfl ?_
  refine X.scr (j := i + 2) pkL_law rfl (ixS hi hL (by decide)) ?_
  refine X.walk wkL_law fnil RetOk.no ⟨by show cs ≤ 601024; omega, by show ss ≤ 7293034; omega⟩ [505] 4 rfl ?_
  refine X.scr (j := i + 3) pkL_law rfl (ixS hi hL (by decide)) ?_
  refine X.walk wkL_law fnil RetOk.no ⟨by show cs ≤ 601024; omega, by show ss ≤ 7293034; omega⟩ [510] 4 rfl ?_
  refine X.scr (j := i + 4) pkL_law rfl (ixS hi hL (by decide)) ?_
  refine X.walk wkL_law fnil RetOk.no ⟨by show cs ≤ 601024; omega, by show ss ≤ 7293034; omega⟩ [515] 4 rfl ?_
  refine X.scr (j := i + 5) pkL_law rfl (ixS hi hL (by decide)) ?_
  refine X.walk wkL_law (fcons (ceV k_feed mmW5 ckL_57 rfl mrW5 (Nat.le_of_ble_eq_true rfl) rfl) fnil) RetOk.no ⟨by show cs ≤ 601024; omega, by show ss ≤ 7293034; omega⟩ [1107, 522] 2 rfl ?_
  refine Exists.intro _ (Exists.intro n (And.intro hm1 (And.intro ⟨hrd.1, hn⟩ ?_)))
  intro v2 M2 h2 p2 hm2 hf2
  have hx2 := hx1.frM hf2
  (try dsimp only at p2)
  obtain ⟨ev, r2⟩ : v1 = v2 ∧ RelX W1 M2 := j_feed r hn1 hn p1 p2
  refine And.intro (fun _ => ?_) (fun b9 => absurd ev b9)
  exact X.widen (by omega) (by omega) (nx _ M2 h2 z hx2 hm2 r2)
theorem l_end {l : Launch} {G : GG} {b L x i cs ss z : Nat} {xs : Nat → Int32} {W : XW} {M : SS} {h : AH} (hi : i + 6 ≤ L) (hL : L ≤ 384) (hc : cs + 861 ≤ 601024) (hs : ss + 5366 ≤ 7293034) (hx : IsX G x W h) (hm : IsMod G (x + 1959) M h) (r : RelX W M) (nx : LNx l G b L x i cs ss xs) : X l G mL_law RMl (TGl G b L xs) cs ss 524 (LOi b x i) [] h z := by
  unfold LOi
  refine X.walk wkL_law fnil RetOk.no ⟨by show cs ≤ 601024; omega, by show ss ≤ 7293034; omega⟩ [529] 5 rfl ?_
  refine X.scr (j := i + 1) pkL_law rfl (ixS hi hL (by decide)) ?_
  refine X.walk wkL_law (fcons (ceV x_end xmW1 ckL_58 rfl xrW1 (Nat.le_of_ble_eq_true rfl) rfl) fnil) RetOk.no ⟨by show cs ≤ 601024; omega, by show ss ≤ 7293034; omega⟩ [538] 6 rfl ?_
  refine Exists.intro _ (Exists.intro () (And.intro hx (And.intro trivial ?_)))
  intro v1 W1 h1 p1 hx1 hf1
  have hm1 := hm.frX hf1
  (try dsimp only at p1)
  refine X.scr (j := i + 1) pkL_law rfl (ixS hi hL (by decide)) ?_
  refine X.walk wkL_law (fcons (ceV k_end mmW1 ckL_62 rfl mrW1 (Nat.le_of_ble_eq_true rfl) rfl) fnil) RetOk.no ⟨by show cs ≤ 601024; omega, by show ss ≤ 7293034; omega⟩ [1107, 545] 2 rfl ?_
  refine Exists.intro _ (Exists.intro () (And.intro hm1 (And.intro trivial ?_)))
  intro v2 M2 h2 p2 hm2 hf2
  have hx2 := hx1.frM hf2
  (try dsimp only at p2)
  obtain ⟨ev, r2⟩ : v1 = v2 ∧ RelX W1 M2 := j_end r p1 p2
  refine And.intro (fun _ => ?_) (fun b9 => absurd ev b9)
  exact X.widen (by omega) (by omega) (nx _ M2 h2 z hx2 hm2 r2)
theorem l_fault {l : Launch} {G : GG} {b L x i cs ss z : Nat} {xs : Nat → Int32} {W : XW} {M : SS} {h : AH} (hi : i + 6 ≤ L) (hL : L ≤ 384) (hc : cs + 861 ≤ 601024) (hs : ss + 5366 ≤ 7293034) (hx : IsX G x W h) (hm : IsMod G (x + 1959) M h) (r : RelX W M) (nx : LNx l G b L x i cs ss xs) : X l G mL_law RMl (TGl G b L xs) cs ss 560 (LOi b x i) [] h z := by
  unfold LOi
  refine X.walk wkL_law fnil RetOk.no ⟨by show cs ≤ 601024; omega, by show ss ≤ 7293034; omega⟩ [565] 5 rfl ?_
  refine X.scr (j := i + 1) pkL_law rfl (ixS hi hL (by decide)) ?_
  refine X.walk wkL_law (fcons (ceV x_fault xmR1 ckL_68 rfl xrR1 (Nat.le_of_ble_eq_true rfl) rfl) fnil) RetOk.no ⟨by show cs ≤ 601024; omega, by show ss ≤ 7293034; omega⟩ [574] 6 rfl ?_
  refine Exists.intro _ (Exists.intro () (And.intro hx (And.intro trivial ?_)))
  intro v1 p1
  have hm1 := hm
  have hx1 := hx
  (try dsimp only at p1)
  refine X.scr (j := i + 1) pkL_law rfl (ixS hi hL (by decide)) ?_
  refine X.walk wkL_law (fcons (ceV k_fault mmW1 ckL_71 rfl mrW1 (Nat.le_of_ble_eq_true rfl) rfl) fnil) RetOk.no ⟨by show cs ≤ 601024; omega, by show ss ≤ 7293034; omega⟩ [1107, 581] 2 rfl ?_
  refine Exists.intro _ (Exists.intro () (And.intro hm1 (And.intro trivial ?_)))
  intro v2 M2 h2 p2 hm2 hf2
  have hx2 := hx1.frM hf2
  (try dsimp only at p2)
  obtain ⟨ev, r2⟩ : v1 = v2 ∧ RelX W M2 := ⟨(p1.trans (j_fault r)).trans p2.1.symm, by rw [p2.2]; exact r.tl⟩
  refine And.intro (fun _ => ?_) (fun b9 => absurd ev b9)
  exact X.widen (by omega) (by omega) (nx _ M2 h2 z hx2 hm2 r2)
theorem l_days {l : Launch} {G : GG} {b L x i cs ss z : Nat} {xs : Nat → Int32} {W : XW} {M : SS} {h : AH} (hi : i + 6 ≤ L) (hL : L ≤ 384) (hc : cs + 861 ≤ 601024) (hs : ss + 5366 ≤ 7293034) (hx : IsX G x W h) (hm : IsMod G (x + 1959) M h) (r : RelX W M) (nx : LNx l G b L x i cs ss xs) : X l G mL_law RMl (TGl G b L xs) cs ss 583 (LOi b x i) [] h z := by
  unfold LOi
  refine X.walk wkL_law fnil RetOk.no ⟨by show cs ≤ 601024; omega, by show ss ≤ 7293034; omega⟩ [588] 5 rfl ?_
  refine X.scr (j := i + 1) pkL_law rfl (ixS hi hL (by decide)) ?_
  refine X.walk wkL_law (fcons (ceV x_days xmW1 ckL_72 rfl xrW1 (Nat.le_of_ble_eq_true rfl) rfl) fnil) RetOk.no ⟨by show cs ≤ 601024; omega, by show ss ≤ 7293034; omega⟩ [597] 6 rfl ?_
  refine Exists.intro _ (Exists.intro (tl M) (And.intro hx (And.intro r.tl ?_)))
  intro v1 W1 h1 p1 hx1 hf1
  have hm1 := hm.frX hf1
  (try dsimp only at p1)
  refine X.scr (j := i + 1) pkL_law rfl (ixS hi hL (by decide)) ?_
  refine X.walk wkL_law (fcons (ceV k_days mmW1 ckL_75 rfl mrW1 (Nat.le_of_ble_eq_true rfl) rfl) fnil) RetOk.no ⟨by show cs ≤ 601024; omega, by show ss ≤ 7293034; omega⟩ [1107, 604] 2 rfl ?_
  refine Exists.intro _ (Exists.intro (W.Ls 0, gN (W.S 0 0 16)) (And.intro hm1 (And.intro r.good ?_)))
  intro v2 M2 h2 p2 hm2 hf2
  have hx2 := hx1.frM hf2
  (try dsimp only at p2)
  obtain ⟨ev, r2⟩ : v1 = v2 ∧ RelX W1 M2 := j_days r p1 p2
  refine And.intro (fun _ => ?_) (fun b9 => absurd ev b9)
  exact X.widen (by omega) (by omega) (nx _ M2 h2 z hx2 hm2 r2)
theorem l_at {l : Launch} {G : GG} {b L x i cs ss z : Nat} {xs : Nat → Int32} {W : XW} {M : SS} {h : AH} (hi : i + 6 ≤ L) (hL : L ≤ 384) (hc : cs + 861 ≤ 601024) (hs : ss + 5366 ≤ 7293034) (hx : IsX G x W h) (hm : IsMod G (x + 1959) M h) (r : RelX W M) (nx : LNx l G b L x i cs ss xs) : X l G mL_law RMl (TGl G b L xs) cs ss 606 (LOi b x i) [] h z := by
  unfold LOi
  refine X.walk wkL_law fnil RetOk.no ⟨by show cs ≤ 601024; omega, by show ss ≤ 7293034; omega⟩ [611] 5 rfl ?_
  refine X.scr (j := i + 1) pkL_law rfl (ixS hi hL (by decide)) ?_
  refine X.walk wkL_law fnil RetOk.no ⟨by show cs ≤ 601024; omega, by show ss ≤ 7293034; omega⟩ [616] 4 rfl ?_
  refine X.scr (j := i + 2) pkL_law rfl (ixS hi hL (by decide)) ?_
  refine X.walk wkL_law (fcons (ceV x_at xmW2 ckL_76 rfl xrW2 (Nat.le_of_ble_eq_true rfl) rfl) fnil) RetOk.no ⟨by show cs ≤ 601024; omega, by show ss ≤ 7293034; omega⟩ [625] 6 rfl ?_
  refine Exists.intro _ (Exists.intro (tl M) (And.intro hx (And.intro r.tl ?_)))
  intro v1 W1 h1 p1 hx1 hf1
  have hm1 := hm.frX hf1
  (try dsimp only at p1)
  refine X.scr (j := i + 1) pkL_law rfl (ixS hi hL (by decide)) ?_
  refine X.walk wkL_law fnil RetOk.no ⟨by show cs ≤ 601024; omega, by show ss ≤ 7293034; omega⟩ [630] 4 rfl ?_
  refine X.scr (j := i + 2) pkL_law rfl (ixS hi hL (by decide)) ?_
  refine X.walk wkL_law (fcons (ceV k_at mmW2 ckL_80 rfl mrW2 (Nat.le_of_ble_eq_true rfl) rfl) fnil) RetOk.no ⟨by show cs ≤ 601024; omega, by show ss ≤ 7293034; omega⟩ [1107, 637] 2 rfl ?_
  refine Exists.intro _ (Exists.intro (W.Ls 0) (And.intro hm1 (And.intro ⟨r.sq, r.w.2.2.2.2⟩ ?_)))
  intro v2 M2 h2 p2 hm2 hf2
  have hx2 := hx1.frM hf2
  (try dsimp only at p2)
  obtain ⟨ev, r2⟩ : v1 = v2 ∧ RelX W1 M2 := j_at r p1 p2
  refine And.intro (fun _ => ?_) (fun b9 => absurd ev b9)
  exact X.widen (by omega) (by omega) (nx _ M2 h2 z hx2 hm2 r2)
theorem l_of {l : Launch} {G : GG} {b L x i cs ss z : Nat} {xs : Nat → Int32} {W : XW} {M : SS} {h : AH} (hi : i + 6 ≤ L) (hL : L ≤ 384) (hc : cs + 861 ≤ 601024) (hs : ss + 5366 ≤ 7293034) (hx : IsX G x W h) (hm : IsMod G (x + 1959) M h) (r : RelX W M) (nx : LNx l G b L x i cs ss xs) : X l G mL_law RMl (TGl G b L xs) cs ss 639 (LOi b x i) [] h z := by
  unfold LOi
  refine X.walk wkL_law fnil RetOk.no ⟨by show cs ≤ 601024; omega, by show ss ≤ 7293034; omega⟩ [644] 5 rfl ?_
  refine X.scr (j := i + 1) pkL_law rfl (ixS hi hL (by decide)) ?_
  refine X.walk wkL_law fnil RetOk.no ⟨by show cs ≤ 601024; omega, by show ss ≤ 7293034; omega⟩ [649] 4 rfl ?_
  refine X.scr (j := i + 2) pkL_law rfl (ixS hi hL (by decide)) ?_
  refine X.walk wkL_law (fcons (ceV x_of xmR2 ckL_81 rfl xrR2 (Nat.le_of_ble_eq_true rfl) rfl) fnil) RetOk.no ⟨by show cs ≤ 601024; omega, by show ss ≤ 7293034; omega⟩ [658] 6 rfl ?_
  refine Exists.intro _ (Exists.intro (tl M) (And.intro hx (And.intro r.tl ?_)))
  intro v1 p1
  have hm1 := hm
  have hx1 := hx
  (try dsimp only at p1)
  refine X.scr (j := i + 1) pkL_law rfl (ixS hi hL (by decide)) ?_
  refine X.walk wkL_law fnil RetOk.no ⟨by show cs ≤ 601024; omega, by show ss ≤ 7293034; omega⟩ [663] 4 rfl ?_
  refine X.scr (j := i + 2) pkL_law rfl (ixS hi hL (by decide)) ?_
  refine X.walk wkL_law (fcons (ceV k_of mmW2 ckL_84 rfl mrW2 (Nat.le_of_ble_eq_true rfl) rfl) fnil) RetOk.no ⟨by show cs ≤ 601024; omega, by show ss ≤ 7293034; omega⟩ [1107, 670] 2 rfl ?_
  refine Exists.intro _ (Exists.intro () (And.intro hm1 (And.intro r.pn ?_)))
  intro v2 M2 h2 p2 hm2 hf2
  have hx2 := hx1.frM hf2
  (try dsimp only at p2)
  obtain ⟨ev, r2⟩ : v1 = v2 ∧ RelX W M2 := ⟨p1.trans p2.1.symm, by rw [p2.2]; exact r.tl⟩
  refine And.intro (fun _ => ?_) (fun b9 => absurd ev b9)
  exact X.widen (by omega) (by omega) (nx _ M2 h2 z hx2 hm2 r2)
theorem l_kind {l : Launch} {G : GG} {b L x i cs ss z : Nat} {xs : Nat → Int32} {W : XW} {M : SS} {h : AH} (hi : i + 6 ≤ L) (hL : L ≤ 384) (hc : cs + 861 ≤ 601024) (hs : ss + 5366 ≤ 7293034) (hx : IsX G x W h) (hm : IsMod G (x + 1959) M h) (r : RelX W M) (nx : LNx l G b L x i cs ss xs) : X l G mL_law RMl (TGl G b L xs) cs ss 672 (LOi b x i) [] h z := by
  unfold LOi
  refine X.walk wkL_law fnil RetOk.no ⟨by show cs ≤ 601024; omega, by show ss ≤ 7293034; omega⟩ [677] 5 rfl ?_
  refine X.scr (j := i + 1) pkL_law rfl (ixS hi hL (by decide)) ?_
  refine X.walk wkL_law fnil RetOk.no ⟨by show cs ≤ 601024; omega, by show ss ≤ 7293034; omega⟩ [682] 4 rfl ?_
  refine X.scr (j := i + 2) pkL_law rfl (ixS hi hL (by decide)) ?_
  refine X.walk wkL_law (fcons (ceV x_kind xmR2 ckL_85 rfl xrR2 (Nat.le_of_ble_eq_true rfl) rfl) fnil) RetOk.no ⟨by show cs ≤ 601024; omega, by show ss ≤ 7293034; omega⟩ [691] 6 rfl ?_
  refine Exists.intro _ (Exists.intro () (And.intro hx (And.intro (r.w.1 3) ?_)))
  intro v1 p1
  have hm1 := hm
  have hx1 := hx
  (try dsimp only at p1)
  refine X.scr (j := i + 1) pkL_law rfl (ixS hi hL (by decide)) ?_
  refine X.walk wkL_law fnil RetOk.no ⟨by show cs ≤ 601024; omega, by show ss ≤ 7293034; omega⟩ [696] 4 rfl ?_
  refine X.scr (j := i + 2) pkL_law rfl (ixS hi hL (by decide)) ?_
  refine X.walk wkL_law (fcons (ceV k_kind mmW2 ckL_88 rfl mrW2 (Nat.le_of_ble_eq_true rfl) rfl) fnil) RetOk.no ⟨by show cs ≤ 601024; omega, by show ss ≤ 7293034; omega⟩ [1107, 703] 2 rfl ?_
  refine Exists.intro _ (Exists.intro () (And.intro hm1 (And.intro r.pn ?_)))
  intro v2 M2 h2 p2 hm2 hf2
  have hx2 := hx1.frM hf2
  (try dsimp only at p2)
  obtain ⟨ev, r2⟩ : v1 = v2 ∧ RelX W M2 := ⟨(p1.trans (j_kind r)).trans p2.1.symm, by rw [p2.2]; exact r.tl⟩
  refine And.intro (fun _ => ?_) (fun b9 => absurd ev b9)
  exact X.widen (by omega) (by omega) (nx _ M2 h2 z hx2 hm2 r2)
theorem l_book {l : Launch} {G : GG} {b L x i cs ss z : Nat} {xs : Nat → Int32} {W : XW} {M : SS} {h : AH} (hi : i + 6 ≤ L) (hL : L ≤ 384) (hc : cs + 861 ≤ 601024) (hs : ss + 5366 ≤ 7293034) (hx : IsX G x W h) (hm : IsMod G (x + 1959) M h) (r : RelX W M) (nx : LNx l G b L x i cs ss xs) : X l G mL_law RMl (TGl G b L xs) cs ss 705 (LOi b x i) [] h z := by
  unfold LOi
  refine X.walk wkL_law fnil RetOk.no ⟨by show cs ≤ 601024; omega, by show ss ≤ 7293034; omega⟩ [710] 5 rfl ?_
  refine X.scr (j := i + 1) pkL_law rfl (ixS hi hL (by decide)) ?_
  refine X.walk wkL_law fnil RetOk.no ⟨by show cs ≤ 601024; omega, by show ss ≤ 7293034; omega⟩ [715] 4 rfl ?_
  refine X.scr (j := i + 2) pkL_law rfl (ixS hi hL (by decide)) ?_
  refine X.walk wkL_law (fcons (ceV x_book xmR2 ckL_89 rfl xrR2 (Nat.le_of_ble_eq_true rfl) rfl) fnil) RetOk.no ⟨by show cs ≤ 601024; omega, by show ss ≤ 7293034; omega⟩ [724] 6 rfl ?_
  refine Exists.intro _ (Exists.intro () (And.intro hx (And.intro (r.w.2.1 0) ?_)))
  intro v1 p1
  have hm1 := hm
  have hx1 := hx
  (try dsimp only at p1)
  refine X.scr (j := i + 1) pkL_law rfl (ixS hi hL (by decide)) ?_
  refine X.walk wkL_law fnil RetOk.no ⟨by show cs ≤ 601024; omega, by show ss ≤ 7293034; omega⟩ [729] 4 rfl ?_
  refine X.scr (j := i + 2) pkL_law rfl (ixS hi hL (by decide)) ?_
  refine X.walk wkL_law (fcons (ceV k_book mmW2 ckL_92 rfl mrW2 (Nat.le_of_ble_eq_true rfl) rfl) fnil) RetOk.no ⟨by show cs ≤ 601024; omega, by show ss ≤ 7293034; omega⟩ [1107, 736] 2 rfl ?_
  refine Exists.intro _ (Exists.intro () (And.intro hm1 (And.intro r.pn ?_)))
  intro v2 M2 h2 p2 hm2 hf2
  have hx2 := hx1.frM hf2
  (try dsimp only at p2)
  obtain ⟨ev, r2⟩ : v1 = v2 ∧ RelX W M2 := ⟨(p1.trans (j_book r)).trans p2.1.symm, by rw [p2.2]; exact r.tl⟩
  refine And.intro (fun _ => ?_) (fun b9 => absurd ev b9)
  exact X.widen (by omega) (by omega) (nx _ M2 h2 z hx2 hm2 r2)
theorem l_soup {l : Launch} {G : GG} {b L x i cs ss z : Nat} {xs : Nat → Int32} {W : XW} {M : SS} {h : AH} (hi : i + 6 ≤ L) (hL : L ≤ 384) (hc : cs + 861 ≤ 601024) (hs : ss + 5366 ≤ 7293034) (hx : IsX G x W h) (hm : IsMod G (x + 1959) M h) (r : RelX W M) (nx : LNx l G b L x i cs ss xs) : X l G mL_law RMl (TGl G b L xs) cs ss 738 (LOi b x i) [] h z := by
  unfold LOi
  refine X.walk wkL_law fnil RetOk.no ⟨by show cs ≤ 601024; omega, by show ss ≤ 7293034; omega⟩ [743] 5 rfl ?_
  refine X.scr (j := i + 1) pkL_law rfl (ixS hi hL (by decide)) ?_
  refine X.walk wkL_law fnil RetOk.no ⟨by show cs ≤ 601024; omega, by show ss ≤ 7293034; omega⟩ [748] 4 rfl ?_
  refine X.scr (j := i + 2) pkL_law rfl (ixS hi hL (by decide)) ?_
  refine X.walk wkL_law fnil RetOk.no ⟨by show cs ≤ 601024; omega, by show ss ≤ 7293034; omega⟩ [753] 4 rfl ?_
  refine X.scr (j := i + 3) pkL_law rfl (ixS hi hL (by decide)) ?_
  refine X.walk wkL_law (fcons (ceV x_soup xmW3 ckL_93 rfl xrW3 (Nat.le_of_ble_eq_true rfl) rfl) fnil) RetOk.no ⟨by show cs ≤ 601024; omega, by show ss ≤ 7293034; omega⟩ [762] 6 rfl ?_
  refine Exists.intro _ (Exists.intro (tl M) (And.intro hx (And.intro r.tl ?_)))
  intro v1 W1 h1 p1 hx1 hf1
  have hm1 := hm.frX hf1
  (try dsimp only at p1)
  refine X.scr (j := i + 1) pkL_law rfl (ixS hi hL (by decide)) ?_
  refine X.walk wkL_law fnil RetOk.no ⟨by show cs ≤ 601024; omega, by show ss ≤ 7293034; omega⟩ [767] 4 rfl ?_
  refine X.scr (j := i + 2) pkL_law rfl (ixS hi hL (by decide)) ?_
  refine X.walk wkL_law fnil RetOk.no ⟨by show cs ≤ 601024; omega, by show ss ≤ 7293034; omega⟩ [772] 4 rfl ?_
  refine X.scr (j := i + 3) pkL_law rfl (ixS hi hL (by decide)) ?_
  refine X.walk wkL_law (fcons (ceV k_soup mmW3 ckL_96 rfl mrW3 (Nat.le_of_ble_eq_true rfl) rfl) fnil) RetOk.no ⟨by show cs ≤ 601024; omega, by show ss ≤ 7293034; omega⟩ [1107, 779] 2 rfl ?_
  refine Exists.intro _ (Exists.intro () (And.intro hm1 (And.intro ⟨r.pn, r.wd, r.ge, r.pos⟩ ?_)))
  intro v2 M2 h2 p2 hm2 hf2
  have hx2 := hx1.frM hf2
  (try dsimp only at p2)
  obtain ⟨ev, r2⟩ : v1 = v2 ∧ RelX W1 M2 := j_soup r p1 p2
  refine And.intro (fun _ => ?_) (fun b9 => absurd ev b9)
  exact X.widen (by omega) (by omega) (nx _ M2 h2 z hx2 hm2 r2)
theorem l_unsaid {l : Launch} {G : GG} {b L x i cs ss z : Nat} {xs : Nat → Int32} {W : XW} {M : SS} {h : AH} (hi : i + 6 ≤ L) (hL : L ≤ 384) (hc : cs + 861 ≤ 601024) (hs : ss + 5366 ≤ 7293034) (hx : IsX G x W h) (hm : IsMod G (x + 1959) M h) (r : RelX W M) (nx : LNx l G b L x i cs ss xs) : X l G mL_law RMl (TGl G b L xs) cs ss 781 (LOi b x i) [] h z := by
  unfold LOi
  refine X.walk wkL_law fnil RetOk.no ⟨by show cs ≤ 601024; omega, by show ss ≤ 7293034; omega⟩ [786] 5 rfl ?_
  refine X.scr (j := i + 1) pkL_law rfl (ixS hi hL (by decide)) ?_
  refine X.walk wkL_law fnil RetOk.no ⟨by show cs ≤ 601024; omega, by show ss ≤ 7293034; omega⟩ [791] 4 rfl ?_
  refine X.scr (j := i + 2) pkL_law rfl (ixS hi hL (by decide)) ?_
  refine X.walk wkL_law (fcons (ceV x_unsaid xmR2 ckL_97 rfl xrR2 (Nat.le_of_ble_eq_true rfl) rfl) fnil) RetOk.no ⟨by show cs ≤ 601024; omega, by show ss ≤ 7293034; omega⟩ [800] 6 rfl ?_
  refine Exists.intro _ (Exists.intro (tl M) (And.intro hx (And.intro r.tl ?_)))
  intro v1 p1
  have hm1 := hm
  have hx1 := hx
  (try dsimp only at p1)
  refine X.scr (j := i + 1) pkL_law rfl (ixS hi hL (by decide)) ?_
  refine X.walk wkL_law fnil RetOk.no ⟨by show cs ≤ 601024; omega, by show ss ≤ 7293034; omega⟩ [805] 4 rfl ?_
  refine X.scr (j := i + 2) pkL_law rfl (ixS hi hL (by decide)) ?_
  refine X.walk wkL_law (fcons (ceV k_unsaid mmW2 ckL_100 rfl mrW2 (Nat.le_of_ble_eq_true rfl) rfl) fnil) RetOk.no ⟨by show cs ≤ 601024; omega, by show ss ≤ 7293034; omega⟩ [1107, 812] 2 rfl ?_
  refine Exists.intro _ (Exists.intro () (And.intro hm1 (And.intro trivial ?_)))
  intro v2 M2 h2 p2 hm2 hf2
  have hx2 := hx1.frM hf2
  (try dsimp only at p2)
  obtain ⟨ev, r2⟩ : v1 = v2 ∧ RelX W M2 := ⟨p1.trans p2.1.symm, by rw [p2.2]; exact r.tl⟩
  refine And.intro (fun _ => ?_) (fun b9 => absurd ev b9)
  exact X.widen (by omega) (by omega) (nx _ M2 h2 z hx2 hm2 r2)
theorem l_odds {l : Launch} {G : GG} {b L x i cs ss z : Nat} {xs : Nat → Int32} {W : XW} {M : SS} {h : AH} (hi : i + 6 ≤ L) (hL : L ≤ 384) (hc : cs + 861 ≤ 601024) (hs : ss + 5366 ≤ 7293034) (hx : IsX G x W h) (hm : IsMod G (x + 1959) M h) (r : RelX W M) (nx : LNx l G b L x i cs ss xs) : X l G mL_law RMl (TGl G b L xs) cs ss 814 (LOi b x i) [] h z := by
  unfold LOi
  refine X.walk wkL_law fnil RetOk.no ⟨by show cs ≤ 601024; omega, by show ss ≤ 7293034; omega⟩ [819] 5 rfl ?_
  refine X.scr (j := i + 1) pkL_law rfl (ixS hi hL (by decide)) ?_
  refine X.walk wkL_law fnil RetOk.no ⟨by show cs ≤ 601024; omega, by show ss ≤ 7293034; omega⟩ [824] 4 rfl ?_
  refine X.scr (j := i + 2) pkL_law rfl (ixS hi hL (by decide)) ?_
  refine X.walk wkL_law fnil RetOk.no ⟨by show cs ≤ 601024; omega, by show ss ≤ 7293034; omega⟩ [829] 4 rfl ?_
  refine X.scr (j := i + 3) pkL_law rfl (ixS hi hL (by decide)) ?_
  refine X.walk wkL_law fnil RetOk.no ⟨by show cs ≤ 601024; omega, by show ss ≤ 7293034; omega⟩ [834] 4 rfl ?_
  refine X.scr (j := i + 4) pkL_law rfl (ixS hi hL (by decide)) ?_
  refine X.walk wkL_law (fcons (ceV x_odds xmR4 ckL_101 rfl xrR4 (Nat.le_of_ble_eq_true rfl) rfl) fnil) RetOk.no ⟨by show cs ≤ 601024; omega, by show ss ≤ 7293034; omega⟩ [843] 6 rfl ?_
  refine Exists.intro _ (Exists.intro (tl M) (And.intro hx (And.intro r.tl ?_)))
  intro v1 p1
  have hm1 := hm
  have hx1 := hx
  (try dsimp only at p1)
  refine X.scr (j := i + 1) pkL_law rfl (ixS hi hL (by decide)) ?_
  refine X.walk wkL_law fnil RetOk.no ⟨by show cs ≤ 601024; omega, by show ss ≤ 7293034; omega⟩ [848] 4 rfl ?_
  refine X.scr (j := i + 2) pkL_law rfl (ixS hi hL (by decide)) ?_
  refine X.walk wkL_law fnil RetOk.no ⟨by show cs ≤ 601024; omega, by show ss ≤ 7293034; omega⟩ [853] 4 rfl ?_
  refine X.scr (j := i + 3) pkL_law rfl (ixS hi hL (by decide)) ?_
  refine X.walk wkL_law fnil RetOk.no ⟨by show cs ≤ 601024; omega, by show ss ≤ 7293034; omega⟩ [858] 4 rfl ?_
  refine X.scr (j := i + 4) pkL_law rfl (ixS hi hL (by decide)) ?_
  refine X.walk wkL_law (fcons (ceV k_odds mmW4 ckL_105 rfl mrW4 (Nat.le_of_ble_eq_true rfl) rfl) fnil) RetOk.no ⟨by show cs ≤ 601024; omega, by show ss ≤ 7293034; omega⟩ [1107, 865] 2 rfl ?_
  refine Exists.intro _ (Exists.intro () (And.intro hm1 (And.intro r.wd ?_)))
  intro v2 M2 h2 p2 hm2 hf2
  have hx2 := hx1.frM hf2
  (try dsimp only at p2)
  obtain ⟨ev, r2⟩ : v1 = v2 ∧ RelX W M2 := ⟨p1.trans p2.1.symm, by rw [p2.2]; exact r.tl⟩
  refine And.intro (fun _ => ?_) (fun b9 => absurd ev b9)
  exact X.widen (by omega) (by omega) (nx _ M2 h2 z hx2 hm2 r2)
theorem l_grove {l : Launch} {G : GG} {b L x i cs ss z : Nat} {xs : Nat → Int32} {W : XW} {M : SS} {h : AH} (hi : i + 6 ≤ L) (hL : L ≤ 384) (hc : cs + 861 ≤ 601024) (hs : ss + 5366 ≤ 7293034) (hx : IsX G x W h) (hm : IsMod G (x + 1959) M h) (r : RelX W M) (nx : LNx l G b L x i cs ss xs) : X l G mL_law RMl (TGl G b L xs) cs ss 867 (LOi b x i) [] h z := by
  unfold LOi
  refine X.walk wkL_law fnil RetOk.no ⟨by show cs ≤ 601024; omega, by show ss ≤ 7293034; omega⟩ [872] 5 rfl ?_
  refine X.scr (j := i + 1) pkL_law rfl (ixS hi hL (by decide)) ?_
  refine X.walk wkL_law fnil RetOk.no ⟨by show cs ≤ 601024; omega, by show ss ≤ 7293034; omega⟩ [877] 4 rfl ?_
  refine X.scr (j := i + 2) pkL_law rfl (ixS hi hL (by decide)) ?_
  refine X.walk wkL_law (fcons (ceV x_grove xmR2 ckL_106 rfl xrR2 (Nat.le_of_ble_eq_true rfl) rfl) fnil) RetOk.no ⟨by show cs ≤ 601024; omega, by show ss ≤ 7293034; omega⟩ [886] 6 rfl ?_
  refine Exists.intro _ (Exists.intro (tl M) (And.intro hx (And.intro r.tl ?_)))
  intro v1 p1
  have hm1 := hm
  have hx1 := hx
  (try dsimp only at p1)
  refine X.scr (j := i + 1) pkL_law rfl (ixS hi hL (by decide)) ?_
  refine X.walk wkL_law fnil RetOk.no ⟨by show cs ≤ 601024; omega, by show ss ≤ 7293034; omega⟩ [891] 4 rfl ?_
  refine X.scr (j := i + 2) pkL_law rfl (ixS hi hL (by decide)) ?_
  refine X.walk wkL_law (fcons (ceV k_grove mmW2 ckL_109 rfl mrW2 (Nat.le_of_ble_eq_true rfl) rfl) fnil) RetOk.no ⟨by show cs ≤ 601024; omega, by show ss ≤ 7293034; omega⟩ [1107, 898] 2 rfl ?_
  refine Exists.intro _ (Exists.intro () (And.intro hm1 (And.intro r.wd ?_)))
  intro v2 M2 h2 p2 hm2 hf2
  have hx2 := hx1.frM hf2
  (try dsimp only at p2)
  obtain ⟨ev, r2⟩ : v1 = v2 ∧ RelX W M2 := ⟨p1.trans p2.1.symm, by rw [p2.2]; exact r.tl⟩
  refine And.intro (fun _ => ?_) (fun b9 => absurd ev b9)
  exact X.widen (by omega) (by omega) (nx _ M2 h2 z hx2 hm2 r2)
theorem l_engaged {l : Launch} {G : GG} {b L x i cs ss z : Nat} {xs : Nat → Int32} {W : XW} {M : SS} {h : AH} (hi : i + 6 ≤ L) (hL : L ≤ 384) (hc : cs + 861 ≤ 601024) (hs : ss + 5366 ≤ 7293034) (hx : IsX G x W h) (hm : IsMod G (x + 1959) M h) (r : RelX W M) (nx : LNx l G b L x i cs ss xs) : X l G mL_law RMl (TGl G b L xs) cs ss 900 (LOi b x i) [] h z := by
  unfold LOi
  refine X.walk wkL_law fnil RetOk.no ⟨by show cs ≤ 601024; omega, by show ss ≤ 7293034; omega⟩ [905] 5 rfl ?_
  refine X.scr (j := i + 1) pkL_law rfl (ixS hi hL (by decide)) ?_
  refine X.walk wkL_law (fcons (ceV x_engaged xmR1 ckL_110 rfl xrR1 (Nat.le_of_ble_eq_true rfl) rfl) fnil) RetOk.no ⟨by show cs ≤ 601024; omega, by show ss ≤ 7293034; omega⟩ [914] 6 rfl ?_
  refine Exists.intro _ (Exists.intro (tl M) (And.intro hx (And.intro r.tl ?_)))
  intro v1 p1
  have hm1 := hm
  have hx1 := hx
  (try dsimp only at p1)
  refine X.scr (j := i + 1) pkL_law rfl (ixS hi hL (by decide)) ?_
  refine X.walk wkL_law (fcons (ceV k_engaged mmW1 ckL_113 rfl mrW1 (Nat.le_of_ble_eq_true rfl) rfl) fnil) RetOk.no ⟨by show cs ≤ 601024; omega, by show ss ≤ 7293034; omega⟩ [1107, 921] 2 rfl ?_
  refine Exists.intro _ (Exists.intro () (And.intro hm1 (And.intro trivial ?_)))
  intro v2 M2 h2 p2 hm2 hf2
  have hx2 := hx1.frM hf2
  (try dsimp only at p2)
  obtain ⟨ev, r2⟩ : v1 = v2 ∧ RelX W M2 := ⟨p1.trans p2.1.symm, by rw [p2.2]; exact r.tl⟩
  refine And.intro (fun _ => ?_) (fun b9 => absurd ev b9)
  exact X.widen (by omega) (by omega) (nx _ M2 h2 z hx2 hm2 r2)
theorem l_size {l : Launch} {G : GG} {b L x i cs ss z : Nat} {xs : Nat → Int32} {W : XW} {M : SS} {h : AH} (hi : i + 6 ≤ L) (hL : L ≤ 384) (hc : cs + 861 ≤ 601024) (hs : ss + 5366 ≤ 7293034) (hx : IsX G x W h) (hm : IsMod G (x + 1959) M h) (r : RelX W M) (nx : LNx l G b L x i cs ss xs) : X l G mL_law RMl (TGl G b L xs) cs ss 923 (LOi b x i) [] h z := by
  unfold LOi
  refine X.walk wkL_law fnil RetOk.no ⟨by show cs ≤ 601024; omega, by show ss ≤ 7293034; omega⟩ [928] 5 rfl ?_
  refine X.scr (j := i + 1) pkL_law rfl (ixS hi hL (by decide)) ?_
  refine X.walk wkL_law fnil RetOk.no ⟨by show cs ≤ 601024; omega, by show ss ≤ 7293034; omega⟩ [933] 4 rfl ?_
  refine X.scr (j := i + 2) pkL_law rfl (ixS hi hL (by decide)) ?_
  refine X.walk wkL_law (fcons (ceV x_size xmW2 ckL_114 rfl xrW2 (Nat.le_of_ble_eq_true rfl) rfl) fnil) RetOk.no ⟨by show cs ≤ 601024; omega, by show ss ≤ 7293034; omega⟩ [942] 6 rfl ?_
  refine Exists.intro _ (Exists.intro (tl M) (And.intro hx (And.intro r.tl ?_)))
  intro v1 W1 h1 p1 hx1 hf1
  have hm1 := hm.frX hf1
  (try dsimp only at p1)
  refine X.scr (j := i + 1) pkL_law rfl (ixS hi hL (by decide)) ?_
  refine X.walk wkL_law fnil RetOk.no ⟨by show cs ≤ 601024; omega, by show ss ≤ 7293034; omega⟩ [947] 4 rfl ?_
  refine X.scr (j := i + 2) pkL_law rfl (ixS hi hL (by decide)) ?_
  refine X.walk wkL_law (fcons (ceV k_size mmW2 ckL_117 rfl mrW2 (Nat.le_of_ble_eq_true rfl) rfl) fnil) RetOk.no ⟨by show cs ≤ 601024; omega, by show ss ≤ 7293034; omega⟩ [1107, 954] 2 rfl ?_
  refine Exists.intro _ (Exists.intro (W.Ls 0) (And.intro hm1 (And.intro ⟨r.sq, r.w.2.2.2.2⟩ ?_)))
  intro v2 M2 h2 p2 hm2 hf2
  have hx2 := hx1.frM hf2
  (try dsimp only at p2)
  obtain ⟨ev, r2⟩ : v1 = v2 ∧ RelX W1 M2 := j_size r p1 p2
  refine And.intro (fun _ => ?_) (fun b9 => absurd ev b9)
  exact X.widen (by omega) (by omega) (nx _ M2 h2 z hx2 hm2 r2)
theorem l_full {l : Launch} {G : GG} {b L x i cs ss z : Nat} {xs : Nat → Int32} {W : XW} {M : SS} {h : AH} (hi : i + 6 ≤ L) (hL : L ≤ 384) (hc : cs + 861 ≤ 601024) (hs : ss + 5366 ≤ 7293034) (hx : IsX G x W h) (hm : IsMod G (x + 1959) M h) (r : RelX W M) (nx : LNx l G b L x i cs ss xs) : X l G mL_law RMl (TGl G b L xs) cs ss 956 (LOi b x i) [] h z := by
  unfold LOi
  refine X.walk wkL_law fnil RetOk.no ⟨by show cs ≤ 601024; omega, by show ss ≤ 7293034; omega⟩ [961] 5 rfl ?_
  refine X.scr (j := i + 1) pkL_law rfl (ixS hi hL (by decide)) ?_
  refine X.walk wkL_law (fcons (ceV x_full xmW1 ckL_118 rfl xrW1 (Nat.le_of_ble_eq_true rfl) rfl) fnil) RetOk.no ⟨by show cs ≤ 601024; omega, by show ss ≤ 7293034; omega⟩ [970] 6 rfl ?_
  refine Exists.intro _ (Exists.intro (tl M) (And.intro hx (And.intro r.tl ?_)))
  intro v1 W1 h1 p1 hx1 hf1
  have hm1 := hm.frX hf1
  (try dsimp only at p1)
  refine X.scr (j := i + 1) pkL_law rfl (ixS hi hL (by decide)) ?_
  refine X.walk wkL_law (fcons (ceV k_full mmW1 ckL_121 rfl mrW1 (Nat.le_of_ble_eq_true rfl) rfl) fnil) RetOk.no ⟨by show cs ≤ 601024; omega, by show ss ≤ 7293034; omega⟩ [1107, 977] 2 rfl ?_
  refine Exists.intro _ (Exists.intro (W.Ls 0) (And.intro hm1 (And.intro r.w.2.2.2.2 ?_)))
  intro v2 M2 h2 p2 hm2 hf2
  have hx2 := hx1.frM hf2
  (try dsimp only at p2)
  obtain ⟨ev, r2⟩ : v1 = v2 ∧ RelX W1 M2 := j_full r p1 p2
  refine And.intro (fun _ => ?_) (fun b9 => absurd ev b9)
  exact X.widen (by omega) (by omega) (nx _ M2 h2 z hx2 hm2 r2)
theorem l_went {l : Launch} {G : GG} {b L x i cs ss z : Nat} {xs : Nat → Int32} {W : XW} {M : SS} {h : AH} (hi : i + 6 ≤ L) (hL : L ≤ 384) (hc : cs + 861 ≤ 601024) (hs : ss + 5366 ≤ 7293034) (hx : IsX G x W h) (hm : IsMod G (x + 1959) M h) (r : RelX W M) (nx : LNx l G b L x i cs ss xs) : X l G mL_law RMl (TGl G b L xs) cs ss 979 (LOi b x i) [] h z := by
  unfold LOi
  refine X.walk wkL_law fnil RetOk.no ⟨by show cs ≤ 601024; omega, by show ss ≤ 7293034; omega⟩ [984] 5 rfl ?_
  refine X.scr (j := i + 1) pkL_law rfl (ixS hi hL (by decide)) ?_
  refine X.walk wkL_law fnil RetOk.no ⟨by show cs ≤ 601024; omega, by show ss ≤ 7293034; omega⟩ [989] 4 rfl ?_
  refine X.scr (j := i + 2) pkL_law rfl (ixS hi hL (by decide)) ?_
  refine X.walk wkL_law fnil RetOk.no ⟨by show cs ≤ 601024; omega, by show ss ≤ 7293034; omega⟩ [994] 4 rfl ?_
  refine X.scr (j := i + 3) pkL_law rfl (ixS hi hL (by decide)) ?_
  refine X.walk wkL_law fnil RetOk.no ⟨by show cs ≤ 601024; omega, by show ss ≤ 7293034; omega⟩ [999] 4 rfl ?_
  refine X.scr (j := i + 4) pkL_law rfl (ixS hi hL (by decide)) ?_
  refine X.walk wkL_law (fcons (ceV x_went xmR4 ckL_122 rfl xrR4 (Nat.le_of_ble_eq_true rfl) rfl) fnil) RetOk.no ⟨by show cs ≤ 601024; omega, by show ss ≤ 7293034; omega⟩ [1008] 6 rfl ?_
  refine Exists.intro _ (Exists.intro (tl M) (And.intro hx (And.intro r.tl ?_)))
  intro v1 p1
  have hm1 := hm
  have hx1 := hx
  (try dsimp only at p1)
  refine X.scr (j := i + 1) pkL_law rfl (ixS hi hL (by decide)) ?_
  refine X.walk wkL_law fnil RetOk.no ⟨by show cs ≤ 601024; omega, by show ss ≤ 7293034; omega⟩ [1013] 4 rfl ?_
  refine X.scr (j := i + 2) pkL_law rfl (ixS hi hL (by decide)) ?_
  refine X.walk wkL_law fnil RetOk.no ⟨by show cs ≤ 601024; omega, by show ss ≤ 7293034; omega⟩ [1018] 4 rfl ?_
  refine X.scr (j := i + 3) pkL_law rfl (ixS hi hL (by decide)) ?_
  refine X.walk wkL_law fnil RetOk.no ⟨by show cs ≤ 601024; omega, by show ss ≤ 7293034; omega⟩ [1023] 4 rfl ?_
  refine X.scr (j := i + 4) pkL_law rfl (ixS hi hL (by decide)) ?_
  refine X.walk wkL_law (fcons (ceV k_went mmW4 ckL_125 rfl mrW4 (Nat.le_of_ble_eq_true rfl) rfl) fnil) RetOk.no ⟨by show cs ≤ 601024; omega, by show ss ≤ 7293034; omega⟩ [1107, 1030] 2 rfl ?_
  refine Exists.intro _ (Exists.intro () (And.intro hm1 (And.intro r.b47 ?_)))
  intro v2 M2 h2 p2 hm2 hf2
  have hx2 := hx1.frM hf2
  (try dsimp only at p2)
  obtain ⟨ev, r2⟩ : v1 = v2 ∧ RelX W M2 := ⟨p1.trans p2.1.symm, by rw [p2.2]; exact r.tl⟩
  refine And.intro (fun _ => ?_) (fun b9 => absurd ev b9)
  exact X.widen (by omega) (by omega) (nx _ M2 h2 z hx2 hm2 r2)
theorem l_undo {l : Launch} {G : GG} {b L x i cs ss z : Nat} {xs : Nat → Int32} {W : XW} {M : SS} {h : AH} (hi : i + 6 ≤ L) (hL : L ≤ 384) (hc : cs + 861 ≤ 601024) (hs : ss + 5366 ≤ 7293034) (hx : IsX G x W h) (hm : IsMod G (x + 1959) M h) (r : RelX W M) (nx : LNx l G b L x i cs ss xs) : X l G mL_law RMl (TGl G b L xs) cs ss 1032 (LOi b x i) [] h z := by
  obtain ⟨u, hu, hu8, hu3⟩ := r.undo
  unfold LOi
  refine X.walk wkL_law (fcons (ceV x_undo xmW0 ckL_126 rfl xrW0 (Nat.le_of_ble_eq_true rfl) rfl) fnil) RetOk.no ⟨by show cs ≤ 601024; omega, by show ss ≤ 7293034; omega⟩ [1037] 3 rfl ?_
  refine Exists.intro _ (Exists.intro u (And.intro hx (And.intro ⟨hu8, hu, r.w.1 4⟩ ?_)))
  intro v1 W1 h1 p1 hx1 hf1
  have hm1 := hm.frX hf1
  (try dsimp only at p1)
  refine X.walk wkL_law (fcons (ceV k_undo mmW0 ckL_130 rfl mrW0 (Nat.le_of_ble_eq_true rfl) rfl) fnil) RetOk.no ⟨by show cs ≤ 601024; omega, by show ss ≤ 7293034; omega⟩ [1107, 1043] 2 rfl ?_
  refine Exists.intro _ (Exists.intro u (And.intro hm1 (And.intro ⟨hu3, hu⟩ ?_)))
  intro v2 M2 h2 p2 hm2 hf2
  have hx2 := hx1.frM hf2
  (try dsimp only at p2)
  obtain ⟨ev, r2⟩ : v1 = v2 ∧ RelX W1 M2 := j_undo r hu3 hu p1 p2
  refine And.intro (fun _ => ?_) (fun b9 => absurd ev b9)
  exact X.widen (by omega) (by omega) (nx _ M2 h2 z hx2 hm2 r2)
theorem l_look {l : Launch} {G : GG} {b L x i cs ss z : Nat} {xs : Nat → Int32} {W : XW} {M : SS} {h : AH} (hi : i + 6 ≤ L) (hL : L ≤ 384) (hc : cs + 861 ≤ 601024) (hs : ss + 5366 ≤ 7293034) (hx : IsX G x W h) (hm : IsMod G (x + 1959) M h) (r : RelX W M) (nx : LNx l G b L x i cs ss xs) : X l G mL_law RMl (TGl G b L xs) cs ss 1084 (LOi b x i) [] h z := by
  unfold LOi
  refine X.walk wkL_law fnil RetOk.no ⟨by show cs ≤ 601024; omega, by show ss ≤ 7293034; omega⟩ [1089] 5 rfl ?_
  refine X.scr (j := i + 1) pkL_law rfl (ixS hi hL (by decide)) ?_
  refine X.walk wkL_law (fcons (ceV x_look xmR1 ckL_136 rfl xrR1 (Nat.le_of_ble_eq_true rfl) rfl) fnil) RetOk.no ⟨by show cs ≤ 601024; omega, by show ss ≤ 7293034; omega⟩ [1098] 6 rfl ?_
  refine Exists.intro _ (Exists.intro (tl M) (And.intro hx (And.intro r.tl ?_)))
  intro v1 p1
  have hm1 := hm
  have hx1 := hx
  (try dsimp only at p1)
  refine X.scr (j := i + 1) pkL_law rfl (ixS hi hL (by decide)) ?_
  refine X.walk wkL_law (fcons (ceV k_look mmW1 ckL_139 rfl mrW1 (Nat.le_of_ble_eq_true rfl) rfl) fnil) RetOk.no ⟨by show cs ≤ 601024; omega, by show ss ≤ 7293034; omega⟩ [1107, 1105] 2 rfl ?_
  refine Exists.intro _ (Exists.intro () (And.intro hm1 (And.intro trivial ?_)))
  intro v2 M2 h2 p2 hm2 hf2
  have hx2 := hx1.frM hf2
  (try dsimp only at p2)
  obtain ⟨ev, r2⟩ : v1 = v2 ∧ RelX W M2 := ⟨p1.trans p2.1.symm, by rw [p2.2]; exact r.tl⟩
  refine And.intro (fun _ => ?_) (fun b9 => absurd ev b9)
  exact X.widen (by omega) (by omega) (nx _ M2 h2 z hx2 hm2 r2)
