set_option maxRecDepth 100000
/-! constructors: terms, a line -/
theorem c_tmI {l : Launch} {G : GG} {d : Nat} (hd : 1 ≤ d) {a z : Nat} {h : AH} {P : Option Value → AH → Nat → Prop} (hs : P none h z) : Ct l G mX6_init d 0 0 [.ref a] h z P := by
  refine Ct.of rfl (Nat.le_of_ble_eq_true rfl) rfl ?_
  refine X.walk wkX6_init fnil RetOk.no ⟨Nat.zero_le _, Nat.zero_le _⟩ [1] 2 rfl ?_
  refine X.objI wkX6_init.2.2.2 rfl q569 q124 q125 rfl (by show 1 ≤ d; omega) (by show 0 + 12 ≤ 40 * d; omega) ?_
  refine X.walk wkX6_init fnil (RetOk.m (Nat.zero_le _) (Nat.zero_le _)) ⟨Nat.zero_le _, Nat.zero_le _⟩ [] 2 rfl ?_
  exact hs
theorem c_fixI {l : Launch} {G : GG} {d : Nat} (hd : 2 ≤ d) {a z : Nat} {h : AH} (ha : G.2.2.1.size ≤ a) {x0 : Value} {v : Int32} (ho : h a = some (.inr (6, [x0]))) {P : Option Value → AH → Nat → Prop} (hs : ∀ h', h' = ahU h a (.inr (6, [.int v])) → P none h' z) : Ct l G mX7_init d 0 0 [.ref a, .int v] h z P := by
  refine Ct.of rfl (Nat.le_of_ble_eq_true rfl) rfl ?_
  refine X.walk wkX7_init fnil RetOk.no ⟨Nat.zero_le _, Nat.zero_le _⟩ [1] 2 rfl ?_
  refine X.callI (As := []) (rest := []) ckX7_1 wkX7_init.2.2.2 rfl (c_tmI (d := d - 1) (P := fun v h' z' => v = none ∧ h' = h ∧ z' = z) (by omega) ⟨rfl, rfl, rfl⟩) rfl rfl (Fit.K (by omega) (by decide) (Nat.le_refl 0) (Nat.le_refl 0)) (by decide) ?_
  intro v h' z' hP
  obtain ⟨rfl, rfl, rfl⟩ := hP
  refine X.walk wkX7_init fnil (RetOk.m (Nat.zero_le _) (Nat.zero_le _)) ⟨Nat.zero_le _, Nat.zero_le _⟩ [] 5 rfl ?_
  refine pF0 (okV_W rfl) ho (Nat.le_of_ble_eq_true rfl) ha ?_
  intro h0 e0
  exact hs _ e0
theorem c_knoI {l : Launch} {G : GG} {d : Nat} (hd : 2 ≤ d) {a z : Nat} {h : AH} (ha : G.2.2.1.size ≤ a) {x0 : Value} {v : Int32} (ho : h a = some (.inr (7, [x0]))) {P : Option Value → AH → Nat → Prop} (hs : ∀ h', h' = ahU h a (.inr (7, [.int v])) → P none h' z) : Ct l G mX8_init d 0 0 [.ref a, .int v] h z P := by
  refine Ct.of rfl (Nat.le_of_ble_eq_true rfl) rfl ?_
  refine X.walk wkX8_init fnil RetOk.no ⟨Nat.zero_le _, Nat.zero_le _⟩ [1] 2 rfl ?_
  refine X.callI (As := []) (rest := []) ckX8_1 wkX8_init.2.2.2 rfl (c_tmI (d := d - 1) (P := fun v h' z' => v = none ∧ h' = h ∧ z' = z) (by omega) ⟨rfl, rfl, rfl⟩) rfl rfl (Fit.K (by omega) (by decide) (Nat.le_refl 0) (Nat.le_refl 0)) (by decide) ?_
  intro v h' z' hP
  obtain ⟨rfl, rfl, rfl⟩ := hP
  refine X.walk wkX8_init fnil (RetOk.m (Nat.zero_le _) (Nat.zero_le _)) ⟨Nat.zero_le _, Nat.zero_le _⟩ [] 5 rfl ?_
  refine pF0 (okV_W rfl) ho (Nat.le_of_ble_eq_true rfl) ha ?_
  intro h0 e0
  exact hs _ e0
theorem c_joiI {l : Launch} {G : GG} {d : Nat} (hd : 2 ≤ d) {a z : Nat} {h : AH} (ha : G.2.2.1.size ≤ a) {x0 x1 x2 : Value} {t1 t2 : Nat} {v : Int32} (ho : h a = some (.inr (8, [x0, x1, x2]))) {P : Option Value → AH → Nat → Prop} (hs : ∀ h', h' = ahU h a (.inr (8, [.ref t1, .ref t2, .int v])) → P none h' z) : Ct l G mX9_init d 0 0 [.ref a, .ref t1, .int v, .ref t2] h z P := by
  refine Ct.of rfl (Nat.le_of_ble_eq_true rfl) rfl ?_
  refine X.walk wkX9_init fnil RetOk.no ⟨Nat.zero_le _, Nat.zero_le _⟩ [1] 2 rfl ?_
  refine X.callI (As := []) (rest := []) ckX9_3 wkX9_init.2.2.2 rfl (c_tmI (d := d - 1) (P := fun v h' z' => v = none ∧ h' = h ∧ z' = z) (by omega) ⟨rfl, rfl, rfl⟩) rfl rfl (Fit.K (by omega) (by decide) (Nat.le_refl 0) (Nat.le_refl 0)) (by decide) ?_
  intro v h' z' hP
  obtain ⟨rfl, rfl, rfl⟩ := hP
  refine X.walk wkX9_init fnil (RetOk.m (Nat.zero_le _) (Nat.zero_le _)) ⟨Nat.zero_le _, Nat.zero_le _⟩ [] 11 rfl ?_
  refine pF0 (okV_W rfl) ho (Nat.le_of_ble_eq_true rfl) ha ?_
  intro h0 e0
  refine pF0 (okV_W rfl) (by rw [e0, ahU_s]) (Nat.le_of_ble_eq_true rfl) ha ?_
  intro h1 e1
  refine pF0 (okV_W rfl) (by rw [e1, ahU_s]) (Nat.le_of_ble_eq_true rfl) ha ?_
  intro h2 e2
  exact hs _ (by rw [e2, e1, e0, ahU_2, ahU_2]; rfl)
theorem c_notI {l : Launch} {G : GG} {d : Nat} (hd : 2 ≤ d) {a z : Nat} {h : AH} (ha : G.2.2.1.size ≤ a) {x0 : Value} {t1 : Nat} (ho : h a = some (.inr (9, [x0]))) {P : Option Value → AH → Nat → Prop} (hs : ∀ h', h' = ahU h a (.inr (9, [.ref t1])) → P none h' z) : Ct l G mX10_init d 0 0 [.ref a, .ref t1] h z P := by
  refine Ct.of rfl (Nat.le_of_ble_eq_true rfl) rfl ?_
  refine X.walk wkX10_init fnil RetOk.no ⟨Nat.zero_le _, Nat.zero_le _⟩ [1] 2 rfl ?_
  refine X.callI (As := []) (rest := []) ckX10_1 wkX10_init.2.2.2 rfl (c_tmI (d := d - 1) (P := fun v h' z' => v = none ∧ h' = h ∧ z' = z) (by omega) ⟨rfl, rfl, rfl⟩) rfl rfl (Fit.K (by omega) (by decide) (Nat.le_refl 0) (Nat.le_refl 0)) (by decide) ?_
  intro v h' z' hP
  obtain ⟨rfl, rfl, rfl⟩ := hP
  refine X.walk wkX10_init fnil (RetOk.m (Nat.zero_le _) (Nat.zero_le _)) ⟨Nat.zero_le _, Nat.zero_le _⟩ [] 5 rfl ?_
  refine pF0 (okV_W rfl) ho (Nat.le_of_ble_eq_true rfl) ha ?_
  intro h0 e0
  exact hs _ e0
theorem c_lineI {l : Launch} {G : GG} {d : Nat} (hd : 2 ≤ d) {a z : Nat} {h : AH} (ha : G.2.2.1.size ≤ a) {x0 x1 : Value} {t1 : Nat} {w : Value} (hw : w = .null ∨ ∃ q, w = .ref q) (ho : h a = some (.inr (10, [x0, x1]))) {P : Option Value → AH → Nat → Prop} (hs : ∀ h', h' = ahU h a (.inr (10, [.ref t1, w])) → P none h' z) : Ct l G mX11_init d 0 0 [.ref a, .ref t1, w] h z P := by
  rcases hw with rfl | ⟨q, rfl⟩
  · refine Ct.of rfl (Nat.le_of_ble_eq_true rfl) rfl ?_
    refine X.walk wkX11_init fnil RetOk.no ⟨Nat.zero_le _, Nat.zero_le _⟩ [1] 2 rfl ?_
    refine X.objI wkX11_init.2.2.2 rfl q635 q124 q125 rfl (by show 1 ≤ d; omega) (by show 0 + 12 ≤ 40 * d; omega) ?_
    refine X.walk wkX11_init fnil (RetOk.m (Nat.zero_le _) (Nat.zero_le _)) ⟨Nat.zero_le _, Nat.zero_le _⟩ [] 8 rfl ?_
    refine pF0 (okV_W rfl) ho (Nat.le_of_ble_eq_true rfl) ha ?_
    intro h0 e0
    refine pF0 (okV_W rfl) (by rw [e0, ahU_s]) (Nat.le_of_ble_eq_true rfl) ha ?_
    intro h1 e1
    exact hs _ (by rw [e1, e0, ahU_2]; rfl)
  · refine Ct.of rfl (Nat.le_of_ble_eq_true rfl) rfl ?_
    refine X.walk wkX11_init fnil RetOk.no ⟨Nat.zero_le _, Nat.zero_le _⟩ [1] 2 rfl ?_
    refine X.objI wkX11_init.2.2.2 rfl q635 q124 q125 rfl (by show 1 ≤ d; omega) (by show 0 + 12 ≤ 40 * d; omega) ?_
    refine X.walk wkX11_init fnil (RetOk.m (Nat.zero_le _) (Nat.zero_le _)) ⟨Nat.zero_le _, Nat.zero_le _⟩ [] 8 rfl ?_
    refine pF0 (okV_W rfl) ho (Nat.le_of_ble_eq_true rfl) ha ?_
    intro h0 e0
    refine pF0 (okV_W rfl) (by rw [e0, ahU_s]) (Nat.le_of_ble_eq_true rfl) ha ?_
    intro h1 e1
    exact hs _ (by rw [e1, e0, ahU_2]; rfl)
