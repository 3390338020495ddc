set_option maxRecDepth 100000
/-! a day's growth -/
theorem besideN_congr {S S' : Nat → Nat → Int32} (h1 : S' 0 12 = S 0 12) (h2 : S' 0 13 = S 0 13) (h3 : S' 2 = S 2) (c like : Int32) : ∀ n, besideN S' c like n = besideN S c like n
  | 0 => rfl
  | n + 1 => by
    have e : besideP S' c like n = besideP S c like n := by
      simp only [besideP, capB, isCellB, h1, h2, h3]
    rw [besideN, besideN, besideN_congr h1 h2 h3 c like n, e]
theorem factF_congr {S S' : Nat → Nat → Int32} (h12 : S' 0 12 = S 0 12) (h13 : S' 0 13 = S 0 13) (h14 : S' 0 14 = S 0 14) (h19 : S' 0 19 = S 0 19) (h24 : S' 0 24 = S 0 24) (h1 : S' 1 = S 1) (h2 : S' 2 = S 2) (h3 : S' 3 = S 3) (h4 : S' 4 = S 4) : factF S' = factF S := by
  funext k
  unfold factF
  split
  · rw [h24, h2]
  · rw [h24, h3]
  · rw [h24, h14, h4]
  · rw [h24, h1]
  · rw [h24, besideN_congr h12 h13 h2]
  · rw [h24, besideN_congr h12 h13 h2]
  · rw [h24]
  · rw [h24]
  · rw [h19]
/-- by how much the cap on the cell c grows -/
def grA (S : Nat → Nat → Int32) (ls : List Line9) (c : Nat) : Int32 := growsF (factF (up2 S 0 24 (nI c))) ls
def grF (S : Nat → Nat → Int32) (ls : List Line9) (k : Nat) : Nat → Int32 := fun j => if j < k then (if capB S (nI j) = true then grA S ls j else 0) else S 6 j
def szF (S : Nat → Nat → Int32) (ls : List Line9) (k : Nat) : Nat → Int32 := fun j => if j < k ∧ capB S (nI j) = true then clampI 0 999 (S 3 j + grA S ls j) else S 3 j
theorem grF_0 (S : Nat → Nat → Int32) (ls : List Line9) : grF S ls 0 = S 6 := by funext j; simp [grF]
theorem szF_0 (S : Nat → Nat → Int32) (ls : List Line9) : szF S ls 0 = S 3 := by funext j; simp [szF]
theorem grF_s {S : Nat → Nat → Int32} {ls : List Line9} {c : Nat} {x : Int32} (h : (if capB S (nI c) = true then grA S ls c else 0) = x) : upd (grF S ls c) c x = grF S ls (c + 1) := by
  funext j
  by_cases e : j = c
  · subst e; rw [pk_us]; simp [grF, h]
  · rw [pk_un e]; unfold grF; simp only [show (j < c + 1) ↔ (j < c) from by omega]
theorem szF_n {S : Nat → Nat → Int32} {ls : List Line9} {c : Nat} (h : capB S (nI c) = false) : szF S ls (c + 1) = szF S ls c := by
  funext j
  unfold szF
  by_cases e : j = c
  · subst e; simp [h]
  · simp only [show (j < c + 1) ↔ (j < c) from by omega]
theorem szF_t {S : Nat → Nat → Int32} {ls : List Line9} {c : Nat} (hc : c < 64) (h : capB S (nI c) = true) : upd (szF S ls c) c (clampI 0 999 (szF S ls c c + grF S ls 64 c)) = szF S ls (c + 1) := by
  have e0 : szF S ls c c = S 3 c := by simp [szF]
  have e1 : grF S ls 64 c = grA S ls c := by simp [grF, hc, h]
  rw [e0, e1]
  funext j
  by_cases e : j = c
  · subst e; rw [pk_us]; simp [szF, h]
  · rw [pk_un e]; unfold szF; simp only [show (j < c + 1) ↔ (j < c) from by omega]
def allGrowF (S : Nat → Nat → Int32) (ls : List Line9) : Nat → Nat → Int32 := setF (setF S 6 (grF S ls 64)) 3 (szF S ls 64)
theorem up2_setF {S : Nat → Nat → Int32} {o k : Nat} {f : Nat → Int32} {x : Int32} (h : o ≠ 0) : setF (up2 S 0 k x) o f = up2 (setF S o f) 0 k x := by
  funext o'
  unfold setF up2
  by_cases e : o' = o
  · subst e
    simp [h]
  · by_cases e2 : o' = 0
    · subst e2
      simp [Ne.symm h]
    · simp [e, e2]
theorem up2_up2 {S : Nat → Nat → Int32} {k : Nat} {x y : Int32} : up2 (up2 S 0 k x) 0 k y = up2 S 0 k y := by
  funext o'
  unfold up2
  by_cases e2 : o' = 0
  · subst e2
    simp only [if_true]
    funext j
    by_cases e : j = k
    · subst e; rw [pk_us, pk_us]
    · rw [pk_un e, pk_un e, pk_un e]
  · simp [e2]
theorem up2_self {S : Nat → Nat → Int32} {k : Nat} : up2 S 0 k (S 0 k) = S := by
  funext o'
  unfold up2
  by_cases e2 : o' = 0
  · subst e2
    simp only [if_true]
    funext j
    by_cases e : j = k
    · subst e; rw [pk_us]
    · rw [pk_un e]
  · simp [e2]
def spAllGrow : GG → CSpec := fun G as h Q => match as with
  | [.ref b] => ∃ (S : Nat → Nat → Int32) (law : Nat) (ls : List Line9), IsWood G b S law h ∧ (∀ h', Fr b h h' → IsLaw G h' law ls) ∧ ∀ x h', IsWood G b (up2 (allGrowF S ls) 0 24 x) law h' → Fr b h h' → Q none h'
  | _ => False
theorem moAllGrow {G : GG} : Mono (spAllGrow G) := by
  intro as h Q Q' hQ hs
  unfold spAllGrow at hs ⊢
  split at hs
  · obtain ⟨S, law, ls, h1, h2, h3⟩ := hs
    exact ⟨S, law, ls, h1, h2, fun x h' a b => hQ _ _ (h3 x h' a b)⟩
  · exact hs.elim
theorem rcAllGrow {G : GG} : ∀ as h Q, as.length = 0 + 1 → spAllGrow G as h Q → ∃ b as', as = .ref b :: as' ∧ ∃ fs, h b = some (.inr (1, fs)) := by
  intro as h Q _ hs
  unfold spAllGrow at hs
  split at hs
  · obtain ⟨S, law, ls, h1, h2, h3⟩ := hs
    exact ⟨_, _, rfl, wood_recv h1⟩
  · exact hs.elim
theorem c_allGrow : CtS mX1_allGrow (DEP + 9) spAllGrow := by
  intro l G d hd as h z Q hs
  match as, hs with
  | [.ref b], hs =>
    obtain ⟨S, law, ls, hw, hL, hs⟩ := hs
    refine Ct.of rfl (Nat.le_of_ble_eq_true rfl) rfl ?_
    have loop2 : ∀ (x : Int32) (n c : Nat) (i : Int32) (h1 : AH), c + n = 64 → i = nI c → (IsWood G b (up2 (setF (setF S 6 (grF S ls 64)) 3 (szF S ls c)) 0 24 x) law h1) → (Fr b h h1) → X l G mX1_allGrow (rmK d 0 0) (TGm G (fun v h' z' => Q v h' ∧ z' = z) 0 0) 0 0 39 [(0, .ref b), (1, .int i)] [] h1 z := by
      intro x n
      induction n using Nat.strongRecOn with
      | _ n ih =>
      intro c i h1 hc hi hw hf
      subst hi
      refine X.w wkX1_allGrow (fcons (ceV c_hasCap moW1 ckX1_117 rfl rcW1 (by unfold DEP at hd; omega) rfl) (fcons (ceV c_grows moGrows ckX1_161 rfl rcGrows (by omega) rfl) (fcons (ceMin ckX1_153 q861 (by unfold DEP at hd; omega)) (fcons (ceMax ckX1_158 q862 (by unfold DEP at hd; omega)) fnil)))) [39] 28 rfl ?_
      refine And.intro (fun b42 => ?_) (fun b42 => ?_)
      · simp only [cP, cN, bI_0, Bool.not_eq_false, lt_nle, Decidable.not_not] at b42
        have hc2 : 64 ≤ c := (le64 (by omega) (by decide)).mp b42
        have e : c = 64 := by omega
        subst e
        exact And.intro (hs x _ hw hf) rfl
      · simp only [cP, cN, bI_0, Bool.not_eq_false, lt_nle, Decidable.not_not] at b42
        refine Exists.intro _ (Exists.intro law (And.intro hw ?_))
        refine And.intro (fun b50 => ?_) (fun b50 => ?_)
        · simp only [cP, cN, bI_0, Bool.not_eq_false, lt_nle, Decidable.not_not] at b50
          have hc2 := nle64 (k := 64) b42 (by omega) (by decide)
          refine ih (n - 1) (by omega) (c + 1) _ _ (by omega) (nI_1 c) ?_ hf
          rw [szF_n (S := S) b50]
          exact hw
        · simp only [cP, cN, bI_0, Bool.not_eq_false, lt_nle, Decidable.not_not] at b50
          refine gF (by first | assumption | exact hw.obj | exact hw.arr _ rfl) ?_
          refine gF (by first | assumption | exact hw.obj | exact hw.arr _ rfl) ?_
          refine gA (by first | assumption | exact hw.obj | exact hw.arr _ rfl) (ixN (nle64 (k := 64) b42 (by omega) (by decide)) (by decide)) ?_
          refine gF (by first | assumption | exact hw.obj | exact hw.arr _ rfl) ?_
          refine gA (by first | assumption | exact hw.obj | exact hw.arr _ rfl) (ixN (nle64 (k := 64) b42 (by omega) (by decide)) (by decide)) ?_
          refine sA (by first | assumption | exact hw.obj | exact hw.arr _ rfl) (ixN (nle64 (k := 64) b42 (by omega) (by decide)) (by decide)) (by first | assumption | exact hw.N | exact hw.No _) ?_
          intro h81 e81
          have hc2 := nle64 (k := 64) b42 (by omega) (by decide)
          refine ih (n - 1) (by omega) (c + 1) _ _ (by omega) (nI_1 c) ?_ (hf.uA e81 (by decide))
          have h9 := hw.uA e81 (Or.inl ⟨rfl, rfl⟩)
          rw [up2_setF (by decide), setF_setF] at h9
          rw [← szF_t (S := S) hc2 b50]
          exact h9
    have loop1 : ∀ (n c : Nat) (i : Int32) (h1 : AH), c + n = 64 → i = nI c → (∃ x, IsWood G b (up2 (setF S 6 (grF S ls c)) 0 24 x) law h1) → (Fr b h h1) → X l G mX1_allGrow (rmK d 0 0) (TGm G (fun v h' z' => Q v h' ∧ z' = z) 0 0) 0 0 2 [(0, .ref b), (1, .int i)] [] h1 z := by
      intro  n
      induction n using Nat.strongRecOn with
      | _ n ih =>
      intro c i h1 hc hi hw hf
      subst hi
      obtain ⟨x, hw⟩ := hw
      refine X.w wkX1_allGrow (fcons (ceV c_hasCap moW1 ckX1_117 rfl rcW1 (by unfold DEP at hd; omega) rfl) (fcons (ceV c_grows moGrows ckX1_161 rfl rcGrows (by omega) rfl) (fcons (ceMin ckX1_153 q861 (by unfold DEP at hd; omega)) (fcons (ceMax ckX1_158 q862 (by unfold DEP at hd; omega)) fnil)))) [2, 30, 39] 16 rfl ?_
      refine And.intro (fun b5 => ?_) (fun b5 => ?_)
      · simp only [cP, cN, bI_0, Bool.not_eq_false, lt_nle, Decidable.not_not] at b5
        have hc2 : 64 ≤ c := (le64 (by omega) (by decide)).mp b5
        have e : c = 64 := by omega
        subst e
        exact loop2 x 64 0 _ _ rfl rfl (by rw [szF_0, show setF (setF S 6 (grF S ls 64)) 3 (S 3) = setF S 6 (grF S ls 64) from setF_self (setF S 6 (grF S ls 64)) 3]; exact hw) hf
      · simp only [cP, cN, bI_0, Bool.not_eq_false, lt_nle, Decidable.not_not] at b5
        refine gF (by first | assumption | exact hw.obj | exact hw.arr _ rfl) ?_
        refine Exists.intro _ (Exists.intro law (And.intro hw ?_))
        refine And.intro (fun b18 => ?_) (fun b18 => ?_)
        · simp only [cP, cN, bI_0, Bool.not_eq_false, lt_nle, Decidable.not_not] at b18
          have hc2 := nle64 (k := 64) b5 (by omega) (by decide)
          refine X.w wkX1_allGrow fnil [2] 5 rfl ?_
          refine sA (by first | assumption | exact hw.arr _ rfl) (ixN hc2 (by decide)) (by first | assumption | exact hw.N | exact hw.No _) ?_
          intro h30 e30
          refine ih (n - 1) (by omega) (c + 1) _ _ (by omega) (nI_1 c) ⟨x, ?_⟩ (hf.uA e30 (by decide))
          have h9 := hw.uA e30 (Or.inl ⟨rfl, rfl⟩)
          rw [up2_setF (by decide), setF_setF] at h9
          rw [← grF_s (S := S) (ls := ls) (c := c) (x := 0) (by rw [if_neg (by rw [show capB S (nI c) = false from b18]; decide)])]
          exact h9
        · simp only [cP, cN, bI_0, Bool.not_eq_false, lt_nle, Decidable.not_not] at b18
          refine Exists.intro _ (Exists.intro law (Exists.intro c (Exists.intro ls (And.intro hw (And.intro rfl (And.intro (nle64 (k := 64) b5 (by omega) (by decide)) (And.intro (fun h2 hf2 => hL h2 (hf.tr hf2)) ?_)))))))
          intro h23 hw hf2
          rw [up2_up2] at hw
          have hc2 := nle64 (k := 64) b5 (by omega) (by decide)
          refine X.w wkX1_allGrow fnil [2] 5 rfl ?_
          refine sA (by first | assumption | exact hw.arr _ rfl) (ixN hc2 (by decide)) (by first | assumption | exact hw.N | exact hw.No _) ?_
          intro h30 e30
          refine ih (n - 1) (by omega) (c + 1) _ _ (by omega) (nI_1 c) ⟨nI c, ?_⟩ ((hf.tr hf2).uA e30 (by decide))
          have h9 := hw.uA e30 (Or.inl ⟨rfl, rfl⟩)
          rw [up2_setF (by decide), setF_setF] at h9
          rw [← grF_s (S := S) (ls := ls) (c := c) (by rw [if_pos (show capB S (nI c) = true from b18)])]
          have e9 : growsF (factF (up2 (up2 (setF S 6 (grF S ls c)) 0 24 x) 0 24 (nI c))) ls = grA S ls c := by
            unfold grA
            rw [up2_up2, factF_congr (S := up2 S 0 24 (nI c)) (S' := up2 (setF S 6 (grF S ls c)) 0 24 (nI c)) rfl rfl rfl rfl rfl rfl rfl rfl rfl]
          rw [e9] at h9
          exact h9
    refine X.w wkX1_allGrow fnil [2] 4 rfl ?_
    exact loop1 64 0 _ _ rfl rfl ⟨S 0 24, by rw [grF_0, setF_self, up2_self]; exact hw⟩ Fr.rf
def spDraw : GG → CSpec := fun G as h Q => match as with
  | [.ref b, .int m] => ∃ (S : Nat → Nat → Int32) (law : Nat), IsWood G b S law h ∧ (¬ m = 0) ∧ ∀ v h', v = drawR (S 0 18) m → IsWood G b (up2 S 0 18 (drawS (S 0 18))) law h' → Fr b h h' → Q (some (.int v)) h'
  | _ => False
theorem moDraw {G : GG} : Mono (spDraw G) := by
  intro as h Q Q' hQ hs
  unfold spDraw at hs ⊢
  split at hs
  · obtain ⟨S, law, h1, h2, h3⟩ := hs
    exact ⟨S, law, h1, h2, fun v h' a b c => hQ _ _ (h3 v h' a b c)⟩
  · exact hs.elim
theorem rcDraw {G : GG} : ∀ as h Q, as.length = 1 + 1 → spDraw G as h Q → ∃ b as', as = .ref b :: as' ∧ ∃ fs, h b = some (.inr (1, fs)) := by
  intro as h Q _ hs
  unfold spDraw at hs
  split at hs
  · obtain ⟨S, law, h1, h2, h3⟩ := hs
    exact ⟨_, _, rfl, wood_recv h1⟩
  · exact hs.elim

theorem c_draw : CtS mX1_draw 1 spDraw := by
  intro l G d hd as h z Q hs
  match as, hs with
  | [.ref b, .int m], hs =>
    obtain ⟨S, law, hw, hm, hs⟩ := hs
    refine Ct.of rfl (Nat.le_of_ble_eq_true rfl) rfl ?_
    refine X.w wkX1_draw fnil [] 16 rfl ?_
    refine gF (by first | assumption | exact hw.obj) ?_
    refine pF0 (okV_W rfl) (by first | assumption | exact hw.obj) (Nat.le_of_ble_eq_true rfl) hw.N ?_
    intro h11 e11
    have hf := (Fr.rf (b := b) (h := h)).u0 e11; have hw := hw.u0 e11 rfl
    refine gF (by first | assumption | exact hw.obj) ?_
    refine And.intro hm ?_
    exact And.intro (hs _ _ rfl hw hf) rfl
/-- a day in thought -/
def goesF (S : Nat → Nat → Int32) (ls : List Line9) : Nat → Nat → Int32 := up2 (up2 (allDampF (allGrowF S ls) (-1)) 0 19 0) 0 14 (S 0 14 + 1)
def spGoes : GG → CSpec := fun G as h Q => match as with
  | [.ref b] => ∃ (S : Nat → Nat → Int32) (law : Nat) (ls : List Line9), IsWood G b S law h ∧ (∀ h', Fr b h h' → IsLaw G h' law ls) ∧ ∀ x h', IsWood G b (up2 (goesF S ls) 0 24 x) law h' → Fr b h h' → Q none h'
  | _ => False
theorem moGoes {G : GG} : Mono (spGoes G) := by
  intro as h Q Q' hQ hs
  unfold spGoes at hs ⊢
  split at hs
  · obtain ⟨S, law, ls, h1, h2, h3⟩ := hs
    exact ⟨S, law, ls, h1, h2, fun x h' a b => hQ _ _ (h3 x h' a b)⟩
  · exact hs.elim
theorem rcGoes {G : GG} : ∀ as h Q, as.length = 0 + 1 → spGoes G as h Q → ∃ b as', as = .ref b :: as' ∧ ∃ fs, h b = some (.inr (1, fs)) := by
  intro as h Q _ hs
  unfold spGoes at hs
  split at hs
  · obtain ⟨S, law, ls, h1, h2, h3⟩ := hs
    exact ⟨_, _, rfl, wood_recv h1⟩
  · exact hs.elim

theorem up2_comm {S : Nat → Nat → Int32} {k j : Nat} {x y : Int32} (h : k ≠ j) : up2 (up2 S 0 k x) 0 j y = up2 (up2 S 0 j y) 0 k x := by
  funext o'
  unfold up2
  by_cases e2 : o' = 0
  · subst e2
    simp only [if_true]
    funext i
    by_cases e : i = k
    · subst e; rw [pk_un h, pk_us, pk_us]
    · by_cases e3 : i = j
      · subst e3; rw [pk_us, pk_un e, pk_us]
      · rw [pk_un e3, pk_un e, pk_un e, pk_un e3]
  · simp [e2]
theorem allDampF_x (S : Nat → Nat → Int32) (x m : Int32) : allDampF (up2 S 0 24 x) m = up2 (allDampF S m) 0 24 x := by
  unfold allDampF
  rw [up2_setF (by decide)]
  rfl
theorem c_goesOn : CtS mX1_goesOn (DEP + 10) spGoes := by
  intro l G d hd as h z Q hs
  match as, hs with
  | [.ref b], hs =>
    obtain ⟨S, law, ls, hw, hL, hs⟩ := hs
    refine Ct.of rfl (Nat.le_of_ble_eq_true rfl) rfl ?_
    refine X.w wkX1_goesOn (fcons (ceV c_allGrow moAllGrow ckX1_164 rfl rcAllGrow (by omega) rfl) (fcons (ceV c_allDamp moV1 ckX1_176 rfl rcV1 (by unfold DEP at hd; omega) rfl) fnil)) [] 16 rfl ?_
    refine Exists.intro S (Exists.intro law (Exists.intro ls (And.intro hw (And.intro hL ?_))))
    intro x h1 hw hf
    refine Exists.intro _ (Exists.intro law (And.intro hw ?_))
    intro h6 hw hf2
    have hf := hf.tr hf2
    rw [allDampF_x] at hw
    refine pF0 (okV_W rfl) (by first | assumption | exact hw.obj) (Nat.le_of_ble_eq_true rfl) hw.N ?_
    intro h11 e11
    have hw := hw.u0 e11 rfl; have hf := hf.u0 e11
    refine gF (by first | assumption | exact hw.obj) ?_
    refine pF0 (okV_W rfl) (by first | assumption | exact hw.obj) (Nat.le_of_ble_eq_true rfl) hw.N ?_
    intro h21 e21
    have hw := hw.u0 e21 rfl; have hf := hf.u0 e21
    rw [up2_comm (k := 24) (j := 19) (by decide), up2_comm (k := 24) (j := 14) (by decide)] at hw
    exact And.intro (hs _ _ hw hf) rfl
