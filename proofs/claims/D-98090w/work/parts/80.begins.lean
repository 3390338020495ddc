set_option maxRecDepth 100000
/-! a wood begins -/
def begF (S : Nat → Nat → Int32) (w x : Int32) : Nat → Nat → Int32 := setF (setF (up2 (up2 (up2 (up2 (up2 (up2 (up2 (up2 (up2 (up2 (up2 S 0 12 w) 0 13 x) 0 14 0) 0 15 0) 0 16 0) 0 17 0) 0 19 0) 0 20 0) 0 21 0) 0 22 0) 0 23 0) 1 (cpy 64 (S 1) (fun _ => 10))) 2 (cpy 64 (S 2) (fun _ => -1))
def FrZ (b z : Nat) (h h' : AH) : Prop := ∀ a, Out b a → a ≠ z → h' a = h a
theorem FrZ.of {b z : Nat} {h h' : AH} (f : Fr b h h') : FrZ b z h h' := fun a h1 _ => f a h1
theorem FrZ.tr {b z : Nat} {h h1 h2 : AH} (f : FrZ b z h h1) (g : Fr b h1 h2) : FrZ b z h h2 := fun a h3 h4 => (g a h3).trans (f a h3 h4)
theorem FrZ.z {b z : Nat} {h h1 h2 : AH} {e : va_E} (f : FrZ b z h h1) (g : h2 = ahU h1 z e) : FrZ b z h h2 := fun a h3 h4 => by rw [g, ahU_n h4]; exact f a h3 h4
theorem c_begins {l : Launch} {G : GG} {d : Nat} (hd : 5 ≤ d) {b law z : Nat} {S : Nat → Nat → Int32} {h : AH} {w x : Int32} (hw : IsWood G b S law h) (hz : b + 125 ≤ z) {P : Option Value → AH → Nat → Prop} (hs : ∀ h', IsWood G b (begF S w x) z h' → h' z = some (.inr (11, lsF 0 (G.2.2.2 0) 0)) → FrZ b z h h' → P none h' (z + 1)) : Ct l G mX1_begins d 1 3 [.ref b, .int w, .int x] h z P := by
  refine Ct.of rfl (Nat.le_of_ble_eq_true rfl) rfl ?_
  have hNz : G.2.2.1.size ≤ z := Nat.le_trans hw.N (by omega)
  have loop : ∀ (n c : Nat) (i : Int32) (h1 : AH), c + n = 64 → i = nI c → IsWood G b (setF (setF (up2 (up2 (up2 (up2 (up2 (up2 (up2 (up2 (up2 (up2 (up2 S 0 12 w) 0 13 x) 0 14 0) 0 15 0) 0 16 0) 0 17 0) 0 19 0) 0 20 0) 0 21 0) 0 22 0) 0 23 0) 1 (cpy c (S 1) (fun _ => 10))) 2 (cpy c (S 2) (fun _ => -1))) z h1 → h1 z = some (.inr (11, lsF 0 (G.2.2.2 0) 0)) → FrZ b z h h1 → X l G mX1_begins (rmK d 1 3) (TGm G P 1 3) 1 3 68 [(0, .ref b), (1, .int w), (2, .int x), (3, .int i)] [] h1 (z + 1) := by
    intro n
    induction n using Nat.strongRecOn with
    | _ n ih =>
    intro c i h1 hc hi hw ho hf
    subst hi
    refine X.walk wkX1_begins fnil (RetOk.m (Nat.le_refl 1) (Nat.le_refl 3)) ⟨Nat.le_refl 1, Nat.le_refl 3⟩ [68] 17 rfl ?_
    refine And.intro (fun b71 => ?_) (fun b71 => ?_)
    · simp only [cP, cN, bI_0, Bool.not_eq_false, lt_nle, Decidable.not_not] at b71
      have hc2 : 64 ≤ c := (le64 (by omega) (by decide)).mp b71
      obtain rfl : c = 64 := by omega
      exact hs _ hw ho hf
    · simp only [cP, cN, bI_0, Bool.not_eq_false, lt_nle, Decidable.not_not] at b71
      have hc2 : c < 64 := nle64 (k := 64) b71 (by omega) (by decide)
      refine gF (by first | assumption | exact hw.obj | exact hw.arr _ rfl) ?_
      refine sA (by first | assumption | exact hw.obj | exact hw.arr _ rfl) (ixN hc2 (by decide)) (by first | assumption | exact hw.N | exact hw.No _) ?_
      intro h81 e81
      have ho : h81 z = some (.inr (11, lsF 0 (G.2.2.2 0) 0)) := by rw [e81, ahU_n (by omega)]; exact ho
      have hf := hf.tr (Fr.rf.uA e81 (by decide))
      have hw := hw.uA e81 (Or.inl ⟨rfl, rfl⟩)
      refine gF (by first | assumption | exact hw.obj | exact hw.arr _ rfl) ?_
      refine sA (by first | assumption | exact hw.obj | exact hw.arr _ rfl) (ixN hc2 (by decide)) (by first | assumption | exact hw.N | exact hw.No _) ?_
      intro h88 e88
      have ho : h88 z = some (.inr (11, lsF 0 (G.2.2.2 0) 0)) := by rw [e88, ahU_n (by omega)]; exact ho
      have hf := hf.tr (Fr.rf.uA e88 (by decide))
      have hw := hw.uA e88 (Or.inl ⟨rfl, rfl⟩)
      refine ih (n - 1) (by omega) (c + 1) _ _ (by omega) (nI_1 c) ?_ ho hf
      have e9 : ∀ (A : Nat → Nat → Int32) (f g f' g' : Nat → Int32), setF (setF (setF (setF A 1 f) 2 g) 1 f') 2 g' = setF (setF A 1 f') 2 g' := by
        intro A f g f' g'
        funext q
        unfold setF
        by_cases q2 : q = 2
        · simp [q2]
        · by_cases q1 : q = 1
          · simp [q1]
          · simp [q1, q2]
      rw [e9] at hw
      rw [← cpy_s c (S 1), ← cpy_s c (S 2)]
      exact hw
  refine X.walk wkX1_begins fnil RetOk.no ⟨Nat.zero_le _, Nat.zero_le _⟩ [56] 36 rfl ?_
  refine pF0 (okV_W rfl) (by first | assumption | exact hw.obj) (Nat.le_of_ble_eq_true rfl) hw.N ?_
  intro h2 e2
  have hf := (Fr.rf (b := b) (h := h)).u0 e2; have hw := hw.u0 e2 rfl
  refine pF0 (okV_W rfl) (by first | assumption | exact hw.obj) (Nat.le_of_ble_eq_true rfl) hw.N ?_
  intro h7 e7
  have hw := hw.u0 e7 rfl; have hf := hf.u0 e7
  refine pF0 (okV_W rfl) (by first | assumption | exact hw.obj) (Nat.le_of_ble_eq_true rfl) hw.N ?_
  intro h12 e12
  have hw := hw.u0 e12 rfl; have hf := hf.u0 e12
  refine pF0 (okV_W rfl) (by first | assumption | exact hw.obj) (Nat.le_of_ble_eq_true rfl) hw.N ?_
  intro h17 e17
  have hw := hw.u0 e17 rfl; have hf := hf.u0 e17
  refine pF0 (okV_W rfl) (by first | assumption | exact hw.obj) (Nat.le_of_ble_eq_true rfl) hw.N ?_
  intro h22 e22
  have hw := hw.u0 e22 rfl; have hf := hf.u0 e22
  refine pF0 (okV_W rfl) (by first | assumption | exact hw.obj) (Nat.le_of_ble_eq_true rfl) hw.N ?_
  intro h27 e27
  have hw := hw.u0 e27 rfl; have hf := hf.u0 e27
  refine pF0 (okV_W rfl) (by first | assumption | exact hw.obj) (Nat.le_of_ble_eq_true rfl) hw.N ?_
  intro h32 e32
  have hw := hw.u0 e32 rfl; have hf := hf.u0 e32
  refine pF0 (okV_W rfl) (by first | assumption | exact hw.obj) (Nat.le_of_ble_eq_true rfl) hw.N ?_
  intro h37 e37
  have hw := hw.u0 e37 rfl; have hf := hf.u0 e37
  refine pF0 (okV_W rfl) (by first | assumption | exact hw.obj) (Nat.le_of_ble_eq_true rfl) hw.N ?_
  intro h42 e42
  have hw := hw.u0 e42 rfl; have hf := hf.u0 e42
  refine pF0 (okV_W rfl) (by first | assumption | exact hw.obj) (Nat.le_of_ble_eq_true rfl) hw.N ?_
  intro h47 e47
  have hw := hw.u0 e47 rfl; have hf := hf.u0 e47
  refine pF0 (okV_W rfl) (by first | assumption | exact hw.obj) (Nat.le_of_ble_eq_true rfl) hw.N ?_
  intro h52 e52
  have hw := hw.u0 e52 rfl; have hf := hf.u0 e52
  have hf := (FrZ.of (z := z) hf)
  refine X.newO (ci := 11) (fs := [.int 0, .null, .int 0]) tyJ2 wkX1_begins.2.2.2 rfl in_J2 tyJ2_ok q136 q137 q95 rfl (fun j hj => by match j, hj with | 0, _ => rfl | 1, _ => rfl | 2, _ => rfl) (by show 0 + 1 ≤ 1; decide) (by show 0 + 3 ≤ 3; decide) ?_
  intro h56 e56
  have ho : h56 z = some (.inr (11, [.int 0, .null, .int 0])) := by rw [e56, ahU_s]
  have hf := hf.z e56
  have hw := hw.off e56 (Or.inr hz)
  refine X.walk wkX1_begins fnil RetOk.no ⟨Nat.le_refl 1, Nat.le_refl 3⟩ [60] 2 rfl ?_
  refine X.callI (As := []) (rest := [.ref z, .ref b]) ckX1_52 wkX1_begins.2.2.2 rfl (c_lstInit (d := d - 1) (P := fun v h' z' => v = none ∧ h' = ahU h56 z (.inr (11, lsF 0 (G.2.2.2 0) 0)) ∧ z' = z + 1) (by omega) hNz ho (fun h' e => ⟨rfl, e, rfl⟩)) rfl rfl (Fit.K (by omega) (by decide) (Nat.le_refl 1) (Nat.le_refl 3)) (Nat.le_of_ble_eq_true rfl) ?_
  intro v h60 z60 hP
  obtain ⟨rfl, e60, rfl⟩ := hP
  have ho : h60 z = some (.inr (11, lsF 0 (G.2.2.2 0) 0)) := by rw [e60, ahU_s]
  have hf := hf.z e60
  have hw := hw.off e60 (Or.inr hz)
  refine X.walk wkX1_begins fnil RetOk.no ⟨Nat.le_refl 1, Nat.le_refl 3⟩ [68] 5 rfl ?_
  refine pF0 (okV_W rfl) (by first | assumption | exact hw.obj) (Nat.le_of_ble_eq_true rfl) hw.N ?_
  intro h63 e63
  have ho : h63 z = some (.inr (11, lsF 0 (G.2.2.2 0) 0)) := by rw [e63, ahU_n (by omega)]; exact ho
  have hf := hf.tr (Fr.rf.u0 e63)
  have hw := hw.uL e63
  refine loop 64 0 _ _ rfl rfl ?_ ho hf
  rw [cpy_0, cpy_0]
  have e9 : ∀ (A : Nat → Nat → Int32), setF (setF A 1 (A 1)) 2 (A 2) = A := fun A => by rw [setF_self]; exact setF_self A 2
  exact (e9 (up2 (up2 (up2 (up2 (up2 (up2 (up2 (up2 (up2 (up2 (up2 S 0 12 w) 0 13 x) 0 14 0) 0 15 0) 0 16 0) 0 17 0) 0 19 0) 0 20 0) 0 21 0) 0 22 0) 0 23 0)).symm ▸ hw
