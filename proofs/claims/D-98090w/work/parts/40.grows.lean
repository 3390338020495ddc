set_option maxRecDepth 100000
/-! a list read; by how much a cap grows -/
def spPre : GG → CSpec := fun _ as h Q => match as with
  | [.int i, .int n, .null] => (0 ≤ i ∧ ¬ n ≤ i) ∧ Q (some (.int i)) h
  | _ => False
theorem moPre {G : GG} : Mono (spPre G) := by
  intro as h Q Q' hQ hs
  unfold spPre at hs ⊢
  split at hs
  · exact ⟨hs.1, hQ _ _ hs.2⟩
  · exact hs.elim
theorem c_pre : CtS mJ6_checkIndex 1 spPre := by
  intro l G d hd as h z Q hs
  match as, hs with
  | [.int i, .int n, .null], hs =>
    obtain ⟨⟨h1, h2⟩, hs⟩ := hs
    refine Ct.of rfl (Nat.le_of_ble_eq_true rfl) rfl ?_
    refine X.w wkJ6_checkIndex fnil [] 10 rfl ?_
    refine And.intro (fun b1 => ?_) (fun b1 => ?_)
    · simp only [cP, cN, bI_0, Bool.not_eq_false, lt_nle, Decidable.not_not] at b1
      exact absurd h1 b1
    · simp only [cP, cN, bI_0, Bool.not_eq_false, lt_nle, Decidable.not_not] at b1
      refine And.intro (fun b6 => ?_) (fun b6 => ?_)
      · simp only [cP, cN, bI_0, Bool.not_eq_false, lt_nle, Decidable.not_not] at b6
        exact And.intro hs rfl
      · simp only [cP, cN, bI_0, Bool.not_eq_false, lt_nle, Decidable.not_not] at b6
        exact absurd b6 h2
def spChk : GG → CSpec := fun _ as h Q => match as with
  | [.int i, .int n] => (0 ≤ i ∧ ¬ n ≤ i) ∧ Q (some (.int i)) h
  | _ => False
theorem moChk {G : GG} : Mono (spChk G) := by
  intro as h Q Q' hQ hs
  unfold spChk at hs ⊢
  split at hs
  · exact ⟨hs.1, hQ _ _ hs.2⟩
  · exact hs.elim
theorem c_chk : CtS mJ12_checkIndex 2 spChk := by
  intro l G d hd as h z Q hs
  match as, hs with
  | [.int i, .int n], hs =>
    obtain ⟨h1, hs⟩ := hs
    refine Ct.of rfl (Nat.le_of_ble_eq_true rfl) rfl ?_
    refine X.w wkJ12_checkIndex (fcons (ceS c_pre moPre ckJ12_105 (by omega) rfl) fnil) [] 6 rfl ?_
    refine And.intro h1 ?_
    exact And.intro hs rfl
/-- the object of a list -/
def lsF (mc : Int32) (ea : Nat) (n : Int32) : List Value := [.int mc, .ref ea, .int n]
def spSize : GG → CSpec := fun _ as h Q => match as with
  | [.ref a] => ∃ (mc : Int32) (ea : Nat) (n : Int32), h a = some (.inr (11, lsF mc ea n)) ∧ Q (some (.int n)) h
  | _ => False
theorem moSize {G : GG} : Mono (spSize G) := by
  intro as h Q Q' hQ hs
  unfold spSize at hs ⊢
  split at hs
  · obtain ⟨mc, ea, n, h1, h2⟩ := hs
    exact ⟨mc, ea, n, h1, hQ _ _ h2⟩
  · exact hs.elim
theorem rcSize {G : GG} : ∀ as h Q, as.length = 0 + 1 → spSize G as h Q → ∃ b as', as = .ref b :: as' ∧ ∃ fs, h b = some (.inr (11, fs)) := by
  intro as h Q _ hs
  unfold spSize at hs
  split at hs
  · obtain ⟨mc, ea, n, h1, h2⟩ := hs
    exact ⟨_, _, rfl, _, h1⟩
  · exact hs.elim

theorem c_size : CtS mJ2_size 1 spSize := by
  intro l G d hd as h z Q hs
  match as, hs with
  | [.ref a], hs =>
    obtain ⟨mc, ea, n, h1, hs⟩ := hs
    refine Ct.of rfl (Nat.le_of_ble_eq_true rfl) rfl ?_
    refine X.w wkJ2_size fnil [] 4 rfl ?_
    refine gF (by first | assumption | exact h1) ?_
    exact And.intro hs rfl
def spGet : GG → CSpec := fun G as h Q => match as with
  | [.ref a, .int i] => ∃ (mc : Int32) (ea n cap j la : Nat) (f : Nat → Option Nat), h a = some (.inr (11, lsF mc ea (nI n))) ∧ h ea = some (.inl (G.2.1 5, cap, .inr (.inr (.inr (.inr f))))) ∧ i = nI j ∧ j < n ∧ n ≤ cap ∧ cap < 2147483648 ∧ f j = some la ∧ Q (some (.ref la)) h
  | _ => False
theorem moGet {G : GG} : Mono (spGet G) := by
  intro as h Q Q' hQ hs
  unfold spGet at hs ⊢
  split at hs
  · obtain ⟨mc, ea, n, cap, j, la, f, h1, h2, h3, h4, h5, h6, h7, h8⟩ := hs
    exact ⟨mc, ea, n, cap, j, la, f, h1, h2, h3, h4, h5, h6, h7, hQ _ _ h8⟩
  · exact hs.elim
theorem rcGet {G : GG} : ∀ as h Q, as.length = 1 + 1 → spGet G as h Q → ∃ b as', as = .ref b :: as' ∧ ∃ fs, h b = some (.inr (11, fs)) := by
  intro as h Q _ hs
  unfold spGet at hs
  split at hs
  · obtain ⟨mc, ea, n, cap, j, la, f, h1, h2, h3, h4, h5, h6, h7, h8⟩ := hs
    exact ⟨_, _, rfl, _, h1⟩
  · exact hs.elim

theorem c_elem : CtS mJ2_elementData 1 spGet := by
  intro l G d hd as h z Q hs
  match as, hs with
  | [.ref a, .int i], hs =>
    obtain ⟨mc, ea, n, cap, j, la, f, h1, h2, rfl, h4, h5, h6, h7, hs⟩ := hs
    refine Ct.of rfl (Nat.le_of_ble_eq_true rfl) rfl ?_
    refine X.w wkJ2_elementData fnil [] 6 rfl ?_
    refine gF (by first | assumption | exact h1 | exact h2) ?_
    refine gR (by first | assumption | exact h1 | exact h2) (by decide) (ixN (by omega) h6) (by exact h7) ?_
    exact And.intro hs rfl
theorem c_get : CtS mJ2_get 3 spGet := by
  intro l G d hd as h z Q hs
  match as, hs with
  | [.ref a, .int i], hs =>
    obtain ⟨mc, ea, n, cap, j, la, f, h1, h2, rfl, h4, h5, h6, h7, hs⟩ := hs
    refine Ct.of rfl (Nat.le_of_ble_eq_true rfl) rfl ?_
    refine X.w wkJ2_get (fcons (ceS c_chk moChk ckJ2_118 (by omega) rfl) (fcons (ceV c_elem moGet ckJ2_123 rfl rcGet (by omega) rfl) fnil)) [] 10 rfl ?_
    refine gF (by first | assumption | exact h1 | exact h2) ?_
    refine And.intro ⟨nI_pos' (by omega), fun q => absurd ((nI_leI (by omega) (by omega)).mp q) (by omega)⟩ ?_
    refine Exists.intro _ (Exists.intro _ (Exists.intro _ (Exists.intro _ (Exists.intro _ (Exists.intro _ (Exists.intro _ (And.intro h1 (And.intro h2 (And.intro rfl (And.intro h4 (And.intro h5 (And.intro h6 (And.intro h7 ?_)))))))))))))
    exact And.intro hs rfl
/-! the law: its lines, each by the codes of what it grows by and of when -/
abbrev Line9 : Type := Code9 × Option Code9
def DEP : Nat := 450
def IsLine (h : AH) (la : Nat) (q : Line9) : Prop := ∃ (tg : Nat) (tw : Value), h la = some (.inr (10, [.ref tg, tw])) ∧ IsTm h DEP tg q.1 ∧ ((q.2 = none ∧ tw = .null) ∨ ∃ (c : Code9) (t : Nat), q.2 = some c ∧ tw = .ref t ∧ IsTm h DEP t c)
def IsLaw (G : GG) (h : AH) (law : Nat) (ls : List Line9) : Prop := ∃ (mc : Int32) (ea : Nat), h law = some (.inr (11, lsF mc ea (nI ls.length))) ∧ ls.length ≤ 16 ∧ (ls = [] ∨ ∃ (cap : Nat) (f : Nat → Option Nat), h ea = some (.inl (G.2.1 5, cap, .inr (.inr (.inr (.inr f))))) ∧ ls.length ≤ cap ∧ cap < 2147483648 ∧ ∀ (i : Nat) (q : Line9), ls[i]? = some q → ∃ la, f i = some la ∧ IsLine h la q)
def holds9 (F : Nat → Int32) (w : Option Code9) : Bool := match w with
  | none => true
  | some c => decide (evC F c = 1)
def growsF (F : Nat → Int32) : List Line9 → Int32
  | [] => 1
  | (g, w) :: r => if holds9 F w = true then clampI (-99) 99 (evC F g) else growsF F r
def spGrows : GG → CSpec := fun G as h Q => match as with
  | [.ref b, .int c] => ∃ (S : Nat → Nat → Int32) (law j : Nat) (ls : List Line9), IsWood G b S law h ∧ c = nI j ∧ j < 64 ∧ (∀ h', Fr b h h' → IsLaw G h' law ls) ∧ ∀ h', IsWood G b (up2 S 0 24 c) law h' → Fr b h h' → Q (some (.int (growsF (factF (up2 S 0 24 c)) ls))) h'
  | _ => False
theorem moGrows {G : GG} : Mono (spGrows G) := by
  intro as h Q Q' hQ hs
  unfold spGrows at hs ⊢
  split at hs
  · obtain ⟨S, law, j, ls, h1, h2, h3, h4, h5⟩ := hs
    exact ⟨S, law, j, ls, h1, h2, h3, h4, fun h' a b => hQ _ _ (h5 h' a b)⟩
  · exact hs.elim
theorem rcGrows {G : GG} : ∀ as h Q, as.length = 1 + 1 → spGrows G as h Q → ∃ b as', as = .ref b :: as' ∧ ∃ fs, h b = some (.inr (1, fs)) := by
  intro as h Q _ hs
  unfold spGrows at hs
  split at hs
  · obtain ⟨S, law, j, ls, h1, h2, h3, h4, h5⟩ := hs
    exact ⟨_, _, rfl, wood_recv h1⟩
  · exact hs.elim

theorem c_grows : CtS mX1_grows (DEP + 8) spGrows := by
  intro l G d hd as h z Q hs
  match as, hs with
  | [.ref b, .int c], hs =>
    obtain ⟨S, law, j, ls, hw, hj, hj64, hL, hs⟩ := hs
    have hc0 : up2 S 0 24 c 0 24 = nI j := hj
    refine Ct.of rfl (Nat.le_of_ble_eq_true rfl) rfl ?_
    have loop : ∀ (n k : Nat) (i : Int32) (h1 : AH) (r : List Line9), k + n = ls.length → i = nI k → ls.drop k = r → growsF (factF (up2 S 0 24 c)) r = growsF (factF (up2 S 0 24 c)) ls → IsWood G b (up2 S 0 24 c) law h1 → Fr b h h1 → X l G mX1_grows (rmK d 0 0) (TGm G (fun v h' z' => Q v h' ∧ z' = z) 0 0) 0 0 7 [(0, .ref b), (1, .int c), (2, .int i)] [] h1 z := by
      intro n
      induction n with
      | zero =>
        intro k i h1 r hk hi hr hg hw hf
        subst hi
        obtain ⟨mc, ea, l1, l2, l3⟩ := hL h1 hf
        have hk2 : k = ls.length := by omega
        refine X.w wkX1_grows (fcons (ceV c_size moSize ckX1_131 rfl rcSize (by unfold DEP at hd; omega) rfl) fnil) [7] 10 rfl ?_
        refine gF (by first | assumption | exact hw.obj) ?_
        refine Exists.intro _ (Exists.intro _ (Exists.intro _ (And.intro l1 ?_)))
        refine And.intro (fun b15 => ?_) (fun b15 => ?_)
        · simp only [cP, cN, bI_0, Bool.not_eq_false, lt_nle, Decidable.not_not] at b15
          have e : r = [] := by rw [← hr, hk2]; exact List.drop_length
          rw [e] at hg
          refine And.intro ?_ rfl
          have h9 := hs h1 hw hf
          rw [← hg] at h9
          exact h9
        · simp only [cP, cN, bI_0, Bool.not_eq_false, lt_nle, Decidable.not_not] at b15
          refine gF (by first | assumption | exact hw.obj) ?_
          exact absurd (by rw [hk2]; exact Int32.le_refl _) b15
      | succ n ih =>
        intro k i h1 r hk hi hr hg hw hf
        subst hi
        obtain ⟨mc, ea, l1, l2, l3⟩ := hL h1 hf
        have hkl : k < ls.length := by omega
        obtain ⟨⟨g0, w0⟩, hq⟩ : ∃ q, ls[k]? = some q := ⟨_, List.getElem?_eq_getElem hkl⟩
        have hr2 : r = (g0, w0) :: ls.drop (k + 1) := by
          rw [← hr, List.drop_eq_getElem_cons hkl]
          rw [List.getElem?_eq_getElem hkl] at hq
          rw [Option.some.inj hq]
        rcases l3 with rfl | ⟨cap, f, l4, l5, l6, l7⟩
        · exact absurd hkl (by simp)
        obtain ⟨la, hfk, tg, tw, hla, htg, htw⟩ := l7 k _ hq
        rw [hr2, growsF] at hg
        refine X.w wkX1_grows (fcons (ceV c_size moSize ckX1_131 rfl rcSize (by unfold DEP at hd; omega) rfl) (fcons (ceV c_get moGet ckX1_134 rfl rcGet (by unfold DEP at hd; omega) rfl) (fcons (ceOf (of_ok DEP) q824 (by unfold DEP at hd ⊢; omega)) (fcons (ceMin ckX1_153 q861 (by unfold DEP at hd; omega)) (fcons (ceMax ckX1_158 q862 (by unfold DEP at hd; omega)) fnil))))) [7] 11 rfl ?_
        refine gF (by first | assumption | exact hw.obj) ?_
        refine Exists.intro _ (Exists.intro _ (Exists.intro _ (And.intro l1 ?_)))
        refine And.intro (fun b15 => ?_) (fun b15 => ?_)
        · simp only [cP, cN, bI_0, Bool.not_eq_false, lt_nle, Decidable.not_not] at b15
          exact absurd ((nI_leI (by omega) (by omega)).mp b15) (by omega)
        · simp only [cP, cN, bI_0, Bool.not_eq_false, lt_nle, Decidable.not_not] at b15
          refine gF (by first | assumption | exact hw.obj) ?_
          refine Exists.intro _ (Exists.intro _ (Exists.intro _ (Exists.intro _ (Exists.intro _ (Exists.intro _ (Exists.intro _ (And.intro l1 (And.intro l4 (And.intro rfl (And.intro hkl (And.intro l5 (And.intro l6 (And.intro hfk ?_)))))))))))))
          refine X.cast wkX1_grows.2.2.2 rfl q823 hla rfl ?_
          rcases htw with ⟨e1, rfl⟩ | ⟨cw, t, e1, rfl, htw⟩
          · dsimp only at e1
            subst e1
            refine X.w wkX1_grows (fcons (ceV c_size moSize ckX1_131 rfl rcSize (by unfold DEP at hd; omega) rfl) (fcons (ceV c_get moGet ckX1_134 rfl rcGet (by unfold DEP at hd; omega) rfl) (fcons (ceOf (of_ok DEP) q824 (by unfold DEP at hd ⊢; omega)) (fcons (ceMin ckX1_153 q861 (by unfold DEP at hd; omega)) (fcons (ceMax ckX1_158 q862 (by unfold DEP at hd; omega)) fnil))))) [7] 14 rfl ?_
            refine gF (by first | assumption | exact hw.obj | exact hla) ?_
            refine gF (by first | assumption | exact hw.obj | exact hla) ?_
            refine Exists.intro _ (Exists.intro _ (Exists.intro _ (Exists.intro _ (And.intro htg (And.intro hw (And.intro hc0 (And.intro hj64 ?_)))))))
            refine And.intro ?_ rfl
            have h9 := hs h1 hw hf
            rw [← hg, if_pos (show holds9 (factF (up2 S 0 24 c)) none = true from rfl)] at h9
            exact h9
          · dsimp only at e1
            subst e1
            refine X.w wkX1_grows (fcons (ceV c_size moSize ckX1_131 rfl rcSize (by unfold DEP at hd; omega) rfl) (fcons (ceV c_get moGet ckX1_134 rfl rcGet (by unfold DEP at hd; omega) rfl) (fcons (ceOf (of_ok DEP) q824 (by unfold DEP at hd ⊢; omega)) (fcons (ceMin ckX1_153 q861 (by unfold DEP at hd; omega)) (fcons (ceMax ckX1_158 q862 (by unfold DEP at hd; omega)) fnil))))) [7] 20 rfl ?_
            refine gF (by first | assumption | exact hw.obj | exact hla) ?_
            refine gF (by first | assumption | exact hw.obj | exact hla) ?_
            refine Exists.intro _ (Exists.intro _ (Exists.intro _ (Exists.intro _ (And.intro htw (And.intro hw (And.intro hc0 (And.intro hj64 ?_)))))))
            refine And.intro (fun b46 => ?_) (fun b46 => ?_)
            · simp only [cP, cN, bI_0, Bool.not_eq_false, lt_nle, Decidable.not_not] at b46
              refine X.cut [(0, .ref b), (1, .int c), (2, .int (nI k + 1))] [(3, .ref la)] rfl ?_
              refine ih (k + 1) _ h1 _ (by omega) (nI_1 k) rfl ?_ hw hf
              rw [← hg, if_neg (by rw [(show holds9 (factF (up2 S 0 24 c)) (some cw) = false from by simp only [holds9, b46, decide_false])]; decide)]
            · simp only [cP, cN, bI_0, Bool.not_eq_false, lt_nle, Decidable.not_not] at b46
              refine gF (by first | assumption | exact hw.obj | exact hla) ?_
              refine Exists.intro _ (Exists.intro _ (Exists.intro _ (Exists.intro _ (And.intro htg (And.intro hw (And.intro hc0 (And.intro hj64 ?_)))))))
              refine And.intro ?_ rfl
              have h9 := hs h1 hw hf
              rw [← hg, if_pos (by simp only [holds9, b46, decide_true])] at h9
              exact h9
    refine X.w wkX1_grows fnil [7] 7 rfl ?_
    refine pF0 (okV_W rfl) (by first | assumption | exact hw.obj) (Nat.le_of_ble_eq_true rfl) hw.N ?_
    intro h2 e2
    exact loop ls.length 0 _ _ ls (by omega) rfl rfl rfl (hw.u0 e2 rfl) (Fr.rf.u0 e2)
