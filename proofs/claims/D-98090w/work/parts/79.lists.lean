set_option maxRecDepth 100000
/-! constructors: a person, a list -/
theorem c_pInit {l : Launch} {G : GG} {d : Nat} (hd : 2 ≤ d) {a z : Nat} {h : AH} (ha : G.2.2.1.size ≤ a) (haz : a < z) (ho : h a = some (.inr (2, [.null, .int 0, .int 0, .int 0]))) {P : Option Value → AH → Nat → Prop} (hs : ∀ h', h' = ahU (ahU h z (aI G 12 (fun _ => 0))) a (.inr (2, [.ref z, .int 0, .int 0, .int 0])) → P none h' (z + 1)) : Ct l G mX2_init d 1 12 [.ref a] h z P := by
  refine Ct.of rfl (Nat.le_of_ble_eq_true rfl) rfl ?_
  refine X.walk wkX2_init fnil RetOk.no ⟨Nat.zero_le _, Nat.zero_le _⟩ [1] 2 rfl ?_
  refine X.objI wkX2_init.2.2.2 rfl q168 q124 q125 rfl (by show 1 ≤ d; omega) (by show 0 + 12 ≤ 40 * d; omega) ?_
  refine X.walk wkX2_init fnil RetOk.no ⟨Nat.zero_le _, Nat.zero_le _⟩ [7] 3 rfl ?_
  refine X.newI (N := 12) wkX2_init.2.2.2 rfl q163 rfl rfl (by decide) (by show 0 + 1 ≤ 1; decide) (by show 0 + 12 ≤ 12; decide) ?_
  intro h7 e7
  have ho7 : h7 a = some (.inr (2, [.null, .int 0, .int 0, .int 0])) := by rw [e7, ahU_n (by omega)]; exact ho
  refine X.walk wkX2_init fnil (RetOk.m (Nat.le_refl 1) (Nat.le_refl 12)) ⟨Nat.le_refl 1, Nat.le_refl 12⟩ [] 3 rfl ?_
  refine pF0 (okV_W rfl) ho7 (Nat.le_of_ble_eq_true rfl) ha ?_
  intro h9 e9
  exact hs _ (by rw [e9, e7]; rfl)
theorem c_colInit {l : Launch} {G : GG} {d : Nat} (hd : 1 ≤ d) {a z : Nat} {h : AH} {P : Option Value → AH → Nat → Prop} (hs : P none h z) : Ct l G mJ0_init d 0 0 [.ref a] h z P := by
  refine Ct.of rfl (Nat.le_of_ble_eq_true rfl) rfl ?_
  refine X.walk wkJ0_init fnil RetOk.no ⟨Nat.zero_le _, Nat.zero_le _⟩ [1] 2 rfl ?_
  refine X.objI wkJ0_init.2.2.2 rfl q147 q124 q125 rfl (by show 1 ≤ d; omega) (by show 0 + 12 ≤ 40 * d; omega) ?_
  refine X.walk wkJ0_init fnil (RetOk.m (Nat.zero_le _) (Nat.zero_le _)) ⟨Nat.zero_le _, Nat.zero_le _⟩ [] 2 rfl ?_
  exact hs
theorem c_absInit {l : Launch} {G : GG} {d : Nat} (hd : 2 ≤ d) {a z : Nat} {h : AH} (ha : G.2.2.1.size ≤ a) {x y : Value} {w : Int32} (ho : h a = some (.inr (11, [.int w, x, y]))) {P : Option Value → AH → Nat → Prop} (hs : ∀ h', h' = ahU h a (.inr (11, [.int 0, x, y])) → P none h' z) : Ct l G mJ1_init d 0 0 [.ref a] h z P := by
  refine Ct.of rfl (Nat.le_of_ble_eq_true rfl) rfl ?_
  refine X.walk wkJ1_init fnil RetOk.no ⟨Nat.zero_le _, Nat.zero_le _⟩ [1] 2 rfl ?_
  refine X.callI (As := []) (rest := []) ckJ1_1 wkJ1_init.2.2.2 rfl (c_colInit (d := d - 1) (P := fun v h' z' => v = none ∧ h' = h ∧ z' = z) (by omega) ⟨rfl, rfl, rfl⟩) rfl rfl (Fit.K (by omega) (by decide) (Nat.le_refl 0) (Nat.le_refl 0)) (by decide) ?_
  intro v h' z' hP
  obtain ⟨rfl, rfl, rfl⟩ := hP
  refine X.walk wkJ1_init fnil (RetOk.m (Nat.zero_le _) (Nat.zero_le _)) ⟨Nat.zero_le _, Nat.zero_le _⟩ [] 5 rfl ?_
  refine pF0 (okV_W rfl) ho (Nat.le_of_ble_eq_true rfl) ha ?_
  intro h6 e6
  exact hs _ e6
/-- a list made -/
theorem c_lstInit {l : Launch} {G : GG} {d : Nat} (hd : 3 ≤ d) {a z : Nat} {h : AH} (ha : G.2.2.1.size ≤ a) (ho : h a = some (.inr (11, [.int 0, .null, .int 0]))) {P : Option Value → AH → Nat → Prop} (hs : ∀ h', h' = ahU h a (.inr (11, lsF 0 (G.2.2.2 0) 0)) → P none h' z) : Ct l G mJ2_init d 0 0 [.ref a] h z P := by
  refine Ct.of rfl (Nat.le_of_ble_eq_true rfl) rfl ?_
  refine X.walk wkJ2_init fnil RetOk.no ⟨Nat.zero_le _, Nat.zero_le _⟩ [1] 2 rfl ?_
  refine X.callI (As := []) (rest := []) ckJ2_1 wkJ2_init.2.2.2 rfl (c_absInit (d := d - 1) (P := fun v h' z' => v = none ∧ h' = ahU h a (.inr (11, [.int 0, .null, .int 0])) ∧ z' = z) (by omega) ha ho (fun h' e => ⟨rfl, e, rfl⟩)) rfl rfl (Fit.K (by omega) (by decide) (Nat.le_refl 0) (Nat.le_refl 0)) (by decide) ?_
  intro v h' z' hP
  obtain ⟨rfl, rfl, rfl⟩ := hP
  refine X.walk wkJ2_init fnil RetOk.no ⟨Nat.zero_le _, Nat.zero_le _⟩ [5] 2 rfl ?_
  refine X.gets wkJ2_init.2.2.2 rfl stc_list q148 ?_
  refine X.walk wkJ2_init fnil (RetOk.m (Nat.zero_le _) (Nat.zero_le _)) ⟨Nat.zero_le _, Nat.zero_le _⟩ [] 3 rfl ?_
  refine pF0 (okV_W rfl) ahU_s (Nat.le_of_ble_eq_true rfl) ha ?_
  intro h8 e8
  refine hs _ ?_
  rw [e8]
  funext q
  unfold ahU
  by_cases e : q = a
  · rw [if_pos e, if_pos e]; rfl
  · rw [if_neg e, if_neg e, if_neg e]
