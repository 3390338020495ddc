set_option maxRecDepth 100000
/-! a line of the law; how a cap grows; all of them -/
theorem k_isSo : CtS mX3_isSo 3 (mW1 (fun (a : Nat × Line9) u S => u = nI a.1 ∧ a.1 < 16 ∧ LineAt S a.1 a.2) (fun (a : Nat × Line9) u S v S' => v = bI (holds9 (S 16) a.2.2) ∧ ∃ f, S' = setF S 17 f)) := by
  intro l G d hd as h z Q hs
  match as, hs with
  | [.ref b, .int u], hs =>
    obtain ⟨S, a, hm, hp, hs⟩ := hs
    replace hp : u = nI a.1 ∧ a.1 < 16 ∧ LineAt S a.1 a.2 := hp
    replace hs : ∀ v S' h', (v = bI (holds9 (S 16) a.2.2) ∧ ∃ f, S' = setF S 17 f) → IsMod G b S' h' → FrM b h h' → Q (some (.int v)) h' := hs
    have hf : FrM b h h := FrM.rf
    refine Ct.of rfl (Nat.le_of_ble_eq_true rfl) rfl ?_
    obtain ⟨k, g, w⟩ := a
    dsimp only at hp hs
    obtain ⟨rfl, hk, A, B, C, e1, e2, e3, e4, e5, e6, e7, e8⟩ := hp
    dsimp only at e4 e6 e7 e8
    cases w with
    | none =>
      have e8 : C = B := e8
      refine X.w wkX3_isSo (fcons (ceV k_runs mmW2 ckX3_250 rfl mrW2 (by omega) rfl) fnil) [] 13 rfl ?_
      refine gF (by first | assumption | exact hm.obj | exact hm.arr _ rfl) ?_
      refine gA (by first | assumption | exact hm.obj | exact hm.arr _ rfl) (by first | exact ixN (by omega) (by decide) | exact ixz (by omega) (by decide) | exact ixa (a := 64) rfl (by omega) (by decide) | exact ixa (a := 128) rfl (by omega) (by decide) | exact ixa (a := 192) rfl (by omega) (by decide) | exact ixa (a := 256) rfl (by omega) (by decide) | exact ixa (a := 262) rfl (by omega) (by decide) | exact ixa (a := 268) rfl (by omega) (by decide) | exact ixa (a := 274) rfl (by omega) (by decide) | exact ixa (a := 348) rfl (by omega) (by decide) | exact ixa (a := 400) rfl (by omega) (by decide)) ?_
      refine gF (by first | assumption | exact hm.obj | exact hm.arr _ rfl) ?_
      refine gA (by first | assumption | exact hm.obj | exact hm.arr _ rfl) (by first | exact ixN (by omega) (by decide) | exact ixz (by omega) (by decide) | exact ixa (a := 64) rfl (by omega) (by decide) | exact ixa (a := 128) rfl (by omega) (by decide) | exact ixa (a := 192) rfl (by omega) (by decide) | exact ixa (a := 256) rfl (by omega) (by decide) | exact ixa (a := 262) rfl (by omega) (by decide) | exact ixa (a := 268) rfl (by omega) (by decide) | exact ixa (a := 274) rfl (by omega) (by decide) | exact ixa (a := 348) rfl (by omega) (by decide) | exact ixa (a := 400) rfl (by omega) (by decide)) ?_
      refine And.intro (fun b12 => ?_) (fun b12 => ?_)
      · simp only [cP, cN, bI_0, Bool.not_eq_false, lt_nle, Decidable.not_not] at b12
        refine And.intro (by first | exact Or.inl rfl | exact Or.inr rfl | exact bI_01 _) ?_
        exact And.intro (hs _ _ _ ⟨rfl, S 17, (setF_self S 17).symm⟩ hm hf) rfl
      · simp only [cP, cN, bI_0, Bool.not_eq_false, lt_nle, Decidable.not_not] at b12
        exact absurd (by rw [e2, e3, e8]) b12
    | some w =>
      have e8 : C = B + w.length ∧ CodeAt S B w ∧ Cd9 DEP w := e8
      have hl := cd_len e8.2.2
      have h01 := (cd_one (F := S 16) e8.2.2).2
      refine X.w wkX3_isSo (fcons (ceV k_runs mmW2 ckX3_250 rfl mrW2 (by omega) rfl) fnil) [] 24 rfl ?_
      refine gF (by first | assumption | exact hm.obj | exact hm.arr _ rfl) ?_
      refine gA (by first | assumption | exact hm.obj | exact hm.arr _ rfl) (by first | exact ixN (by omega) (by decide) | exact ixz (by omega) (by decide) | exact ixa (a := 64) rfl (by omega) (by decide) | exact ixa (a := 128) rfl (by omega) (by decide) | exact ixa (a := 192) rfl (by omega) (by decide) | exact ixa (a := 256) rfl (by omega) (by decide) | exact ixa (a := 262) rfl (by omega) (by decide) | exact ixa (a := 268) rfl (by omega) (by decide) | exact ixa (a := 274) rfl (by omega) (by decide) | exact ixa (a := 348) rfl (by omega) (by decide) | exact ixa (a := 400) rfl (by omega) (by decide)) ?_
      refine gF (by first | assumption | exact hm.obj | exact hm.arr _ rfl) ?_
      refine gA (by first | assumption | exact hm.obj | exact hm.arr _ rfl) (by first | exact ixN (by omega) (by decide) | exact ixz (by omega) (by decide) | exact ixa (a := 64) rfl (by omega) (by decide) | exact ixa (a := 128) rfl (by omega) (by decide) | exact ixa (a := 192) rfl (by omega) (by decide) | exact ixa (a := 256) rfl (by omega) (by decide) | exact ixa (a := 262) rfl (by omega) (by decide) | exact ixa (a := 268) rfl (by omega) (by decide) | exact ixa (a := 274) rfl (by omega) (by decide) | exact ixa (a := 348) rfl (by omega) (by decide) | exact ixa (a := 400) rfl (by omega) (by decide)) ?_
      refine And.intro (fun b12 => ?_) (fun b12 => ?_)
      · simp only [cP, cN, bI_0, Bool.not_eq_false, lt_nle, Decidable.not_not] at b12
        exact absurd (by rw [e2, e3]; exact fun q => absurd ((nI_eq (by omega) (by omega)).mp q) (by omega)) (Decidable.not_not.mpr b12)
      · simp only [cP, cN, bI_0, Bool.not_eq_false, lt_nle, Decidable.not_not] at b12
        refine gF (by first | assumption | exact hm.obj | exact hm.arr _ rfl) ?_
        refine gA (by first | assumption | exact hm.obj | exact hm.arr _ rfl) (by first | exact ixN (by omega) (by decide) | exact ixz (by omega) (by decide) | exact ixa (a := 64) rfl (by omega) (by decide) | exact ixa (a := 128) rfl (by omega) (by decide) | exact ixa (a := 192) rfl (by omega) (by decide) | exact ixa (a := 256) rfl (by omega) (by decide) | exact ixa (a := 262) rfl (by omega) (by decide) | exact ixa (a := 268) rfl (by omega) (by decide) | exact ixa (a := 274) rfl (by omega) (by decide) | exact ixa (a := 348) rfl (by omega) (by decide) | exact ixa (a := 400) rfl (by omega) (by decide)) ?_
        refine gF (by first | assumption | exact hm.obj | exact hm.arr _ rfl) ?_
        refine gA (by first | assumption | exact hm.obj | exact hm.arr _ rfl) (by first | exact ixN (by omega) (by decide) | exact ixz (by omega) (by decide) | exact ixa (a := 64) rfl (by omega) (by decide) | exact ixa (a := 128) rfl (by omega) (by decide) | exact ixa (a := 192) rfl (by omega) (by decide) | exact ixa (a := 256) rfl (by omega) (by decide) | exact ixa (a := 262) rfl (by omega) (by decide) | exact ixa (a := 268) rfl (by omega) (by decide) | exact ixa (a := 274) rfl (by omega) (by decide) | exact ixa (a := 348) rfl (by omega) (by decide) | exact ixa (a := 400) rfl (by omega) (by decide)) ?_
        refine Exists.intro _ (Exists.intro (B, w) (And.intro hm (And.intro ⟨e2, by rw [e3, e8.1], by show B + w.length ≤ 400; omega, e8.2.1, Or.inr e8.2.2⟩ ?_)))
        intro v28 S28 h28 p28 hm hf28
        have hf := hf.tr hf28
        (try dsimp only at p28)
        obtain ⟨ev, f, rfl⟩ := p28
        refine And.intro (fun b31 => ?_) (fun b31 => ?_)
        · simp only [cP, cN, bI_0, Bool.not_eq_false, lt_nle, Decidable.not_not] at b31
          refine And.intro (by first | exact Or.inl rfl | exact Or.inr rfl | exact bI_01 _) ?_
          exact And.intro (hs _ _ _ ⟨by rw [ev] at b31; show _ = bI (decide _); rw [b31]; rfl, f, rfl⟩ hm hf) rfl
        · simp only [cP, cN, bI_0, Bool.not_eq_false, lt_nle, Decidable.not_not] at b31
          refine And.intro (by first | exact Or.inl rfl | exact Or.inr rfl | exact bI_01 _) ?_
          exact And.intro (hs _ _ _ ⟨by rw [ev] at b31; show _ = bI (decide _); rw [h01.resolve_left b31]; rfl, f, rfl⟩ hm hf) rfl
def dmpM (S : SS) (c : Nat) (y : Int32) : Int32 := if S 3 c + 10 - y < 0 then 0 else S 3 c + 10 - y
/-- what the model asks of a cell, y days from now, frozen or not -/
def askF (S : SS) (c : Nat) (y fz : Int32) (k : Nat) : Int32 := match k with
  | 0 => S 1 c - 1
  | 1 => S 18 c
  | 2 => S 0 17 + y - S 1 (128 + c)
  | 3 => dmpM S c y
  | 4 => cbsM S c 0
  | 5 => cbsM S c (S 1 c)
  | 6 => nI c - nI c / 8 * 8
  | 7 => nI c / 8
  | _ => fz
theorem evA_congr {F F' : Nat → Int32} (h : ∀ k, k < 9 → F k = F' k) : ∀ {n : Nat} {c : Code9}, Ar9 n c → evC F c = evC F' c
  | 0, _, w => w.elim
  | n + 1, c, w => by
    rcases w with ⟨v, rfl⟩ | ⟨k, hk, rfl⟩ | ⟨o, c1, c2, ho, h2, h3, h4, rfl⟩
    · rfl
    · show F (nI k).toNatClampNeg = F' (nI k).toNatClampNeg
      rw [nI_clamp (by omega)]
      exact h k hk
    · rw [(one_two (by unfold op2; omega) (ar_one h3) (ar_one h4)).1, (one_two (by unfold op2; omega) (ar_one h3) (ar_one h4)).1, evA_congr h h3, evA_congr h h4]
theorem evD_congr {F F' : Nat → Int32} (h : ∀ k, k < 9 → F k = F' k) : ∀ {n : Nat} {c : Code9}, Cd9 n c → evC F c = evC F' c
  | 0, _, w => w.elim
  | n + 1, c, w => by
    rcases w with ⟨c1, h1, rfl⟩ | ⟨o, c1, c2, ho, h3, h4, rfl⟩ | ⟨o, c1, c2, ho, h3, h4, rfl⟩
    · rw [(one_not (cd_one h1).1).1, (one_not (cd_one h1).1).1, evD_congr h h1]
    · rw [(one_two (by unfold op2; omega) (ar_one h3) (ar_one h4)).1, (one_two (by unfold op2; omega) (ar_one h3) (ar_one h4)).1, evA_congr h h3, evA_congr h h4]
    · rw [(one_two (by unfold op2; omega) (cd_one h3).1 (cd_one h4).1).1, (one_two (by unfold op2; omega) (cd_one h3).1 (cd_one h4).1).1, evD_congr h h3, evD_congr h h4]
def WfL (L : List Line9) : Prop := ∀ (i : Nat) (q : Line9), L[i]? = some q → Ar9 DEP q.1 ∧ ∀ w, q.2 = some w → Cd9 DEP w
theorem LawR.wf {L : List Line9} {M : SS} (h : LawR L M) : WfL L := by
  intro i q hq
  obtain ⟨a, b, c, e1, e2, e3, e4, e5, e6, e7, e8⟩ := h.2.2 i q hq
  obtain ⟨g, w⟩ := q
  refine ⟨e7, fun w' hw => ?_⟩
  dsimp only at hw
  subst hw
  exact e8.2.2
theorem growsF_congr {F F' : Nat → Int32} (h : ∀ k, k < 9 → F k = F' k) : ∀ {L : List Line9}, WfL L → growsF F L = growsF F' L
  | [], _ => rfl
  | (g, w) :: r, hL => by
    obtain ⟨h1, h2⟩ := hL 0 (g, w) rfl
    have e : holds9 F w = holds9 F' w := by
      cases w with
      | none => rfl
      | some w => show decide (evC F w = 1) = decide (evC F' w = 1); rw [evD_congr h (h2 w rfl)]
    rw [growsF, growsF, e, evA_congr h h1, growsF_congr h (L := r) (fun i q hq => hL (i + 1) q hq)]
theorem clampM {lo hi x y : Int32} (h : lo ≤ hi) (h1 : x < lo → y = lo) (h2 : ¬ x < lo → hi < x → y = hi) (h3 : ¬ x < lo → ¬ hi < x → y = x) : y = clampI lo hi x := by
  unfold clampI maxI minI
  by_cases c : x < hi
  · rw [if_pos c]
    by_cases a : x < lo
    · rw [if_neg (by rw [Int32.not_lt]; exact Int32.le_of_lt a)]
      exact h1 a
    · rw [h3 a (by rw [Int32.not_lt]; exact Int32.le_of_lt c)]
      by_cases e : lo < x
      · rw [if_pos e]
      · rw [if_neg e]
        rw [Int32.not_lt] at e a
        exact Int32.le_antisymm e a
  · rw [if_neg c]
    have c' := Int32.not_lt.mp c
    have a : ¬ x < lo := by rw [Int32.not_lt]; exact Int32.le_trans h c'
    have hy : y = hi := by
      by_cases q : hi < x
      · exact h2 a q
      · rw [h3 a q]
        exact Int32.le_antisymm (Int32.not_lt.mp q) c'
    rw [hy]
    by_cases e : lo < hi
    · rw [if_pos e]
    · rw [if_neg e]
      exact Int32.le_antisymm (Int32.not_lt.mp e) h
theorem k_growsBy : CtS mX3_growsBy 4 (mW3 (fun (a : Nat × List Line9) u y fz S => u = nI a.1 ∧ a.1 < 64 ∧ LawR a.2 S) (fun (a : Nat × List Line9) u y fz S v S' => v = growsF (askF S a.1 y fz) a.2 ∧ Chg [16, 17] S S')) := by
  intro l G d hd as h z Q hs
  match as, hs with
  | [.ref b, .int u, .int y, .int fz], hs =>
    obtain ⟨S, a, hm, hp, hs⟩ := hs
    replace hp : u = nI a.1 ∧ a.1 < 64 ∧ LawR a.2 S := hp
    replace hs : ∀ v S' h', (v = growsF (askF S a.1 y fz) a.2 ∧ Chg [16, 17] S S') → IsMod G b S' h' → FrM b h h' → Q (some (.int v)) h' := hs
    have hf : FrM b h h := FrM.rf
    refine Ct.of rfl (Nat.le_of_ble_eq_true rfl) rfl ?_
    obtain ⟨c, L⟩ := a
    dsimp only at hp hs
    obtain ⟨rfl, hc, hL⟩ := hp
    have j145 : ∀ (dm : Int32) (h0 : AH), IsMod G b (setF S 16 (upd (upd (upd (upd (upd (upd (upd (upd (upd (S 16) 0 (S 1 c - 1)) 1 (S 18 c)) 2 (S 0 17 + y - S 1 (128 + c))) 3 (dmpM S c y)) 4 (cbsM S c 0)) 5 (cbsM S c (S 1 c))) 6 (nI c - nI c / 8 * 8)) 7 (nI c / 8)) 8 fz)) h0 → FrM b h h0 → X l G mX3_growsBy (rmK d 0 0) (TGm G (fun v h' z' => Q v h' ∧ z' = z) 0 0) 0 0 145 [(0, .ref b), (1, .int (nI c)), (2, .int y), (3, .int fz), (4, .int dm), (5, .int 0)] [] h0 z := by
      intro dm h0 hm hf
      obtain ⟨A, hA⟩ : ∃ A, A = (upd (upd (upd (upd (upd (upd (upd (upd (upd (S 16) 0 (S 1 c - 1)) 1 (S 18 c)) 2 (S 0 17 + y - S 1 (128 + c))) 3 (dmpM S c y)) 4 (cbsM S c 0)) 5 (cbsM S c (S 1 c))) 6 (nI c - nI c / 8 * 8)) 7 (nI c / 8)) 8 fz) := ⟨_, rfl⟩
      rw [← hA] at hm
      have hF : growsF A L = growsF (askF S c y fz) L := by
        refine growsF_congr (fun k hk => ?_) hL.wf
        rw [hA]
        match k, hk with
        | 0, _ => rfl
        | 1, _ => rfl
        | 2, _ => rfl
        | 3, _ => rfl
        | 4, _ => rfl
        | 5, _ => rfl
        | 6, _ => rfl
        | 7, _ => rfl
        | 8, _ => rfl
      clear hA
      have loop : ∀ (n k : Nat) (i : Int32) (f : Nat → Int32) (h1 : AH) (r : List Line9), k + n = L.length → i = nI k → L.drop k = r → growsF A r = growsF A L → IsMod G b (setF (setF S 16 A) 17 f) h1 → FrM b h h1 → X l G mX3_growsBy (rmK d 0 0) (TGm G (fun v h' z' => Q v h' ∧ z' = z) 0 0) 0 0 145 [(0, .ref b), (1, .int (nI c)), (2, .int y), (3, .int fz), (4, .int dm), (5, .int i)] [] h1 z := by
        intro n
        induction n with
        | zero =>
          intro k i f h1 r hk hi hr hg hm hf
          subst hi
          have hk2 : k = L.length := by omega
          refine X.w wkX3_growsBy (fcons (ceV k_runs mmW2 ckX3_250 rfl mrW2 (by omega) rfl) (fcons (ceV k_isSo mmW1 ckX3_259 rfl mrW1 (by omega) rfl) (fcons (ceV k_capsBeside mmR2 ckX3_256 rfl mrR2 (by omega) rfl) fnil))) [145] 7 rfl ?_
          refine gF (by first | assumption | exact hm.obj | exact hm.arr _ rfl) ?_
          refine And.intro (fun b151 => ?_) (fun b151 => ?_)
          · simp only [cP, cN, bI_0, Bool.not_eq_false, lt_nle, Decidable.not_not] at b151
            have e : r = [] := by rw [← hr, hk2]; exact List.drop_length
            rw [e] at hg
            exact And.intro (hs _ _ _ ⟨hg.trans hF, (Chg.rf.set rfl).set rfl⟩ hm hf) rfl
          · simp only [cP, cN, bI_0, Bool.not_eq_false, lt_nle, Decidable.not_not] at b151
            exact absurd (by rw [show setF (setF S 16 A) 17 f 0 26 = S 0 26 from rfl, hL.1, hk2]; exact Int32.le_refl _) b151
        | succ n ih =>
          intro k i f h1 r hk hi hr hg hm hf
          subst hi
          have hkl : k < L.length := by omega
          have hl16 := hL.2.1
          obtain ⟨⟨g0, w0⟩, hq⟩ : ∃ q, L[k]? = some q := ⟨_, List.getElem?_eq_getElem hkl⟩
          have hr2 : r = (g0, w0) :: L.drop (k + 1) := by
            rw [← hr, List.drop_eq_getElem_cons hkl]
            rw [List.getElem?_eq_getElem hkl] at hq
            rw [Option.some.inj hq]
          rw [hr2, growsF] at hg
          have hL2 : ∀ f, LineAt (setF (setF S 16 A) 17 f) k (g0, w0) := fun f => (hL.2.2 k _ hq).chg rfl rfl rfl rfl rfl
          obtain ⟨pA, pB, pC, e1, e2, e3, e4, e5, e6, e7, e8⟩ := hL.2.2 k _ hq
          dsimp only at e4 e6 e7
          have hBC : pB ≤ 400 := by
            cases w0 with
            | none => have e8 : pC = pB := e8; omega
            | some w => have e8 : pC = pB + w.length ∧ _ := e8; omega
          refine X.w wkX3_growsBy (fcons (ceV k_runs mmW2 ckX3_250 rfl mrW2 (by omega) rfl) (fcons (ceV k_isSo mmW1 ckX3_259 rfl mrW1 (by omega) rfl) (fcons (ceV k_capsBeside mmR2 ckX3_256 rfl mrR2 (by omega) rfl) fnil))) [145] 29 rfl ?_
          refine gF (by first | assumption | exact hm.obj | exact hm.arr _ rfl) ?_
          refine And.intro (fun b151 => ?_) (fun b151 => ?_)
          · simp only [cP, cN, bI_0, Bool.not_eq_false, lt_nle, Decidable.not_not] at b151
            exact absurd ((nI_leI (a := L.length) (b := k) (by omega) (by omega)).mp (show nI L.length ≤ nI k from by rw [← hL.1]; exact b151)) (by omega)
          · simp only [cP, cN, bI_0, Bool.not_eq_false, lt_nle, Decidable.not_not] at b151
            refine Exists.intro _ (Exists.intro (k, (g0, w0)) (And.intro hm (And.intro ⟨rfl, by omega, hL2 f⟩ ?_)))
            intro v157 S157 h157 p157 hm hf157
            have hf := hf.tr hf157
            (try dsimp only at p157)
            obtain ⟨ev1, f1, rfl⟩ := p157
            replace ev1 : v157 = bI (holds9 A w0) := ev1
            subst ev1
            rw [setF_setF] at hm
            refine And.intro (fun b160 => ?_) (fun b160 => ?_)
            · simp only [cP, cN, bI_0, Bool.not_eq_false, lt_nle, Decidable.not_not] at b160
              refine gF (by first | assumption | exact hm.obj | exact hm.arr _ rfl) ?_
              refine gA (by first | assumption | exact hm.obj | exact hm.arr _ rfl) (by first | exact ixN (by omega) (by decide) | exact ixz (by omega) (by decide) | exact ixa (a := 64) rfl (by omega) (by decide) | exact ixa (a := 128) rfl (by omega) (by decide) | exact ixa (a := 192) rfl (by omega) (by decide) | exact ixa (a := 256) rfl (by omega) (by decide) | exact ixa (a := 262) rfl (by omega) (by decide) | exact ixa (a := 268) rfl (by omega) (by decide) | exact ixa (a := 274) rfl (by omega) (by decide) | exact ixa (a := 348) rfl (by omega) (by decide) | exact ixa (a := 400) rfl (by omega) (by decide)) ?_
              refine gF (by first | assumption | exact hm.obj | exact hm.arr _ rfl) ?_
              refine gA (by first | assumption | exact hm.obj | exact hm.arr _ rfl) (by first | exact ixN (by omega) (by decide) | exact ixz (by omega) (by decide) | exact ixa (a := 64) rfl (by omega) (by decide) | exact ixa (a := 128) rfl (by omega) (by decide) | exact ixa (a := 192) rfl (by omega) (by decide) | exact ixa (a := 256) rfl (by omega) (by decide) | exact ixa (a := 262) rfl (by omega) (by decide) | exact ixa (a := 268) rfl (by omega) (by decide) | exact ixa (a := 274) rfl (by omega) (by decide) | exact ixa (a := 348) rfl (by omega) (by decide) | exact ixa (a := 400) rfl (by omega) (by decide)) ?_
              refine Exists.intro _ (Exists.intro (pA, g0) (And.intro hm (And.intro ⟨e1, by rw [← e4]; exact e2, by show pA + g0.length ≤ 400; omega, e6.eq rfl rfl, Or.inl e7⟩ ?_)))
              intro v181 S181 h181 p181 hm hf181
              have hf := hf.tr hf181
              (try dsimp only at p181)
              obtain ⟨ev2, f2, rfl⟩ := p181
              replace ev2 : v181 = evC A g0 := ev2
              rw [setF_setF] at hm
              refine And.intro (fun b190 => ?_) (fun b190 => ?_)
              · simp only [cP, cN, bI_0, Bool.not_eq_false, lt_nle, Decidable.not_not] at b190
                refine And.intro (fun b202 => ?_) (fun b202 => ?_)
                · simp only [cP, cN, bI_0, Bool.not_eq_false, lt_nle, Decidable.not_not] at b202
                  refine And.intro (hs _ _ _ ⟨?_, (Chg.rf.set rfl).set rfl⟩ hm hf) rfl
                  rw [← hF, ← hg, if_pos b160, ← ev2]
                  exact clampM (by decide) (fun q => absurd q (by rw [Int32.not_lt]; exact b190)) (fun _ q2 => absurd q2 (by rw [Int32.not_lt]; exact b202)) (fun _ _ => rfl)
                · simp only [cP, cN, bI_0, Bool.not_eq_false, lt_nle, Decidable.not_not] at b202
                  refine And.intro (hs _ _ _ ⟨?_, (Chg.rf.set rfl).set rfl⟩ hm hf) rfl
                  rw [← hF, ← hg, if_pos b160, ← ev2]
                  exact clampM (by decide) (fun q => absurd q (by rw [Int32.not_lt]; exact b190)) (fun _ _ => rfl) (fun _ q2 => absurd (lt_nle.mpr b202) q2)
              · simp only [cP, cN, bI_0, Bool.not_eq_false, lt_nle, Decidable.not_not] at b190
                refine And.intro (hs _ _ _ ⟨?_, (Chg.rf.set rfl).set rfl⟩ hm hf) rfl
                rw [← hF, ← hg, if_pos b160, ← ev2]
                exact clampM (by decide) (fun _ => rfl) (fun q => absurd (lt_nle.mpr b190) q) (fun q => absurd (lt_nle.mpr b190) q)
            · simp only [cP, cN, bI_0, Bool.not_eq_false, lt_nle, Decidable.not_not] at b160
              refine ih (k + 1) _ f1 h157 _ (by omega) (nI_1 k) rfl ?_ hm hf
              rw [← hg, if_neg (by rw [b160]; decide)]
      exact loop L.length 0 _ (S 17) _ L (by omega) rfl rfl rfl (by rw [show setF (setF S 16 A) 17 (S 17) = setF S 16 A from setF_self (setF S 16 A) 17]; exact hm) hf
    have j80 : ∀ (dm dv : Int32) (h0 : AH), dv = dmpM S c y → IsMod G b (setF S 16 (upd (upd (upd (S 16) 0 (S 1 c - 1)) 1 (S 18 c)) 2 (S 0 17 + y - S 1 (128 + c)))) h0 → FrM b h h0 → X l G mX3_growsBy (rmK d 0 0) (TGm G (fun v h' z' => Q v h' ∧ z' = z) 0 0) 0 0 80 [(0, .ref b), (1, .int (nI c)), (2, .int y), (3, .int fz), (4, .int dm)] [.int dv, .int 3, .ref (b + 16)] h0 z := by
      intro dm dv h0 hdv hm hf
      subst hdv
      refine X.w wkX3_growsBy (fcons (ceV k_runs mmW2 ckX3_250 rfl mrW2 (by omega) rfl) (fcons (ceV k_isSo mmW1 ckX3_259 rfl mrW1 (by omega) rfl) (fcons (ceV k_capsBeside mmR2 ckX3_256 rfl mrR2 (by omega) rfl) fnil))) [145] 45 rfl ?_
      refine sA (by first | assumption | exact hm.obj | exact hm.arr _ rfl) (by first | exact ixN (by omega) (by decide) | exact ixz (by omega) (by decide) | exact ixa (a := 64) rfl (by omega) (by decide) | exact ixa (a := 128) rfl (by omega) (by decide) | exact ixa (a := 192) rfl (by omega) (by decide) | exact ixa (a := 256) rfl (by omega) (by decide) | exact ixa (a := 262) rfl (by omega) (by decide) | exact ixa (a := 268) rfl (by omega) (by decide) | exact ixa (a := 274) rfl (by omega) (by decide) | exact ixa (a := 348) rfl (by omega) (by decide) | exact ixa (a := 400) rfl (by omega) (by decide) | exact ixE (j := 3) rfl (by decide) (by decide) | exact ixE (j := 4) rfl (by decide) (by decide) | exact ixE (j := 5) rfl (by decide) (by decide) | exact ixE (j := 6) rfl (by decide) (by decide) | exact ixE (j := 7) rfl (by decide) (by decide) | exact ixE (j := 8) rfl (by decide) (by decide)) (by first | exact hm.N | exact hm.No _) ?_
      intro h80 e80
      have hm := hm.uA e80 rfl; have hf := hf.uA e80 (by decide)
      rw [up2_set] at hm
      refine gF (by first | assumption | exact hm.obj | exact hm.arr _ rfl) ?_
      refine Exists.intro _ (Exists.intro c (And.intro hm (And.intro rfl ?_)))
      intro v89 e89
      (try dsimp only at e89)
      replace e89 : v89 = cbsM S c 0 := e89
      subst e89
      refine sA (by first | assumption | exact hm.obj | exact hm.arr _ rfl) (by first | exact ixN (by omega) (by decide) | exact ixz (by omega) (by decide) | exact ixa (a := 64) rfl (by omega) (by decide) | exact ixa (a := 128) rfl (by omega) (by decide) | exact ixa (a := 192) rfl (by omega) (by decide) | exact ixa (a := 256) rfl (by omega) (by decide) | exact ixa (a := 262) rfl (by omega) (by decide) | exact ixa (a := 268) rfl (by omega) (by decide) | exact ixa (a := 274) rfl (by omega) (by decide) | exact ixa (a := 348) rfl (by omega) (by decide) | exact ixa (a := 400) rfl (by omega) (by decide) | exact ixE (j := 3) rfl (by decide) (by decide) | exact ixE (j := 4) rfl (by decide) (by decide) | exact ixE (j := 5) rfl (by decide) (by decide) | exact ixE (j := 6) rfl (by decide) (by decide) | exact ixE (j := 7) rfl (by decide) (by decide) | exact ixE (j := 8) rfl (by decide) (by decide)) (by first | exact hm.N | exact hm.No _) ?_
      intro h92 e92
      have hm := hm.uA e92 rfl; have hf := hf.uA e92 (by decide)
      rw [up2_set] at hm
      refine gF (by first | assumption | exact hm.obj | exact hm.arr _ rfl) ?_
      refine gF (by first | assumption | exact hm.obj | exact hm.arr _ rfl) ?_
      refine gA (by first | assumption | exact hm.obj | exact hm.arr _ rfl) (by first | exact ixN (by omega) (by decide) | exact ixz (by omega) (by decide) | exact ixa (a := 64) rfl (by omega) (by decide) | exact ixa (a := 128) rfl (by omega) (by decide) | exact ixa (a := 192) rfl (by omega) (by decide) | exact ixa (a := 256) rfl (by omega) (by decide) | exact ixa (a := 262) rfl (by omega) (by decide) | exact ixa (a := 268) rfl (by omega) (by decide) | exact ixa (a := 274) rfl (by omega) (by decide) | exact ixa (a := 348) rfl (by omega) (by decide) | exact ixa (a := 400) rfl (by omega) (by decide) | exact ixE (j := 3) rfl (by decide) (by decide) | exact ixE (j := 4) rfl (by decide) (by decide) | exact ixE (j := 5) rfl (by decide) (by decide) | exact ixE (j := 6) rfl (by decide) (by decide) | exact ixE (j := 7) rfl (by decide) (by decide) | exact ixE (j := 8) rfl (by decide) (by decide)) ?_
      refine Exists.intro _ (Exists.intro c (And.intro hm (And.intro rfl ?_)))
      intro v108 e108
      (try dsimp only at e108)
      replace e108 : v108 = cbsM S c (S 1 c) := e108
      subst e108
      refine sA (by first | assumption | exact hm.obj | exact hm.arr _ rfl) (by first | exact ixN (by omega) (by decide) | exact ixz (by omega) (by decide) | exact ixa (a := 64) rfl (by omega) (by decide) | exact ixa (a := 128) rfl (by omega) (by decide) | exact ixa (a := 192) rfl (by omega) (by decide) | exact ixa (a := 256) rfl (by omega) (by decide) | exact ixa (a := 262) rfl (by omega) (by decide) | exact ixa (a := 268) rfl (by omega) (by decide) | exact ixa (a := 274) rfl (by omega) (by decide) | exact ixa (a := 348) rfl (by omega) (by decide) | exact ixa (a := 400) rfl (by omega) (by decide) | exact ixE (j := 3) rfl (by decide) (by decide) | exact ixE (j := 4) rfl (by decide) (by decide) | exact ixE (j := 5) rfl (by decide) (by decide) | exact ixE (j := 6) rfl (by decide) (by decide) | exact ixE (j := 7) rfl (by decide) (by decide) | exact ixE (j := 8) rfl (by decide) (by decide)) (by first | exact hm.N | exact hm.No _) ?_
      intro h111 e111
      have hm := hm.uA e111 rfl; have hf := hf.uA e111 (by decide)
      rw [up2_set] at hm
      refine gF (by first | assumption | exact hm.obj | exact hm.arr _ rfl) ?_
      refine And.intro (by decide) ?_
      refine sA (by first | assumption | exact hm.obj | exact hm.arr _ rfl) (by first | exact ixN (by omega) (by decide) | exact ixz (by omega) (by decide) | exact ixa (a := 64) rfl (by omega) (by decide) | exact ixa (a := 128) rfl (by omega) (by decide) | exact ixa (a := 192) rfl (by omega) (by decide) | exact ixa (a := 256) rfl (by omega) (by decide) | exact ixa (a := 262) rfl (by omega) (by decide) | exact ixa (a := 268) rfl (by omega) (by decide) | exact ixa (a := 274) rfl (by omega) (by decide) | exact ixa (a := 348) rfl (by omega) (by decide) | exact ixa (a := 400) rfl (by omega) (by decide) | exact ixE (j := 3) rfl (by decide) (by decide) | exact ixE (j := 4) rfl (by decide) (by decide) | exact ixE (j := 5) rfl (by decide) (by decide) | exact ixE (j := 6) rfl (by decide) (by decide) | exact ixE (j := 7) rfl (by decide) (by decide) | exact ixE (j := 8) rfl (by decide) (by decide)) (by first | exact hm.N | exact hm.No _) ?_
      intro h122 e122
      have hm := hm.uA e122 rfl; have hf := hf.uA e122 (by decide)
      rw [up2_set] at hm
      refine gF (by first | assumption | exact hm.obj | exact hm.arr _ rfl) ?_
      refine And.intro (by decide) ?_
      refine sA (by first | assumption | exact hm.obj | exact hm.arr _ rfl) (by first | exact ixN (by omega) (by decide) | exact ixz (by omega) (by decide) | exact ixa (a := 64) rfl (by omega) (by decide) | exact ixa (a := 128) rfl (by omega) (by decide) | exact ixa (a := 192) rfl (by omega) (by decide) | exact ixa (a := 256) rfl (by omega) (by decide) | exact ixa (a := 262) rfl (by omega) (by decide) | exact ixa (a := 268) rfl (by omega) (by decide) | exact ixa (a := 274) rfl (by omega) (by decide) | exact ixa (a := 348) rfl (by omega) (by decide) | exact ixa (a := 400) rfl (by omega) (by decide) | exact ixE (j := 3) rfl (by decide) (by decide) | exact ixE (j := 4) rfl (by decide) (by decide) | exact ixE (j := 5) rfl (by decide) (by decide) | exact ixE (j := 6) rfl (by decide) (by decide) | exact ixE (j := 7) rfl (by decide) (by decide) | exact ixE (j := 8) rfl (by decide) (by decide)) (by first | exact hm.N | exact hm.No _) ?_
      intro h133 e133
      have hm := hm.uA e133 rfl; have hf := hf.uA e133 (by decide)
      rw [up2_set] at hm
      refine gF (by first | assumption | exact hm.obj | exact hm.arr _ rfl) ?_
      refine sA (by first | assumption | exact hm.obj | exact hm.arr _ rfl) (by first | exact ixN (by omega) (by decide) | exact ixz (by omega) (by decide) | exact ixa (a := 64) rfl (by omega) (by decide) | exact ixa (a := 128) rfl (by omega) (by decide) | exact ixa (a := 192) rfl (by omega) (by decide) | exact ixa (a := 256) rfl (by omega) (by decide) | exact ixa (a := 262) rfl (by omega) (by decide) | exact ixa (a := 268) rfl (by omega) (by decide) | exact ixa (a := 274) rfl (by omega) (by decide) | exact ixa (a := 348) rfl (by omega) (by decide) | exact ixa (a := 400) rfl (by omega) (by decide) | exact ixE (j := 3) rfl (by decide) (by decide) | exact ixE (j := 4) rfl (by decide) (by decide) | exact ixE (j := 5) rfl (by decide) (by decide) | exact ixE (j := 6) rfl (by decide) (by decide) | exact ixE (j := 7) rfl (by decide) (by decide) | exact ixE (j := 8) rfl (by decide) (by decide)) (by first | exact hm.N | exact hm.No _) ?_
      intro h141 e141
      have hm := hm.uA e141 rfl; have hf := hf.uA e141 (by decide)
      rw [up2_set] at hm
      exact j145 dm _ hm hf
    refine X.w wkX3_growsBy (fcons (ceV k_runs mmW2 ckX3_250 rfl mrW2 (by omega) rfl) (fcons (ceV k_isSo mmW1 ckX3_259 rfl mrW1 (by omega) rfl) (fcons (ceV k_capsBeside mmR2 ckX3_256 rfl mrR2 (by omega) rfl) fnil))) [80] 53 rfl ?_
    refine gF (by first | assumption | exact hm.obj | exact hm.arr _ rfl) ?_
    refine gA (by first | assumption | exact hm.obj | exact hm.arr _ rfl) (by first | exact ixN (by omega) (by decide) | exact ixz (by omega) (by decide) | exact ixa (a := 64) rfl (by omega) (by decide) | exact ixa (a := 128) rfl (by omega) (by decide) | exact ixa (a := 192) rfl (by omega) (by decide) | exact ixa (a := 256) rfl (by omega) (by decide) | exact ixa (a := 262) rfl (by omega) (by decide) | exact ixa (a := 268) rfl (by omega) (by decide) | exact ixa (a := 274) rfl (by omega) (by decide) | exact ixa (a := 348) rfl (by omega) (by decide) | exact ixa (a := 400) rfl (by omega) (by decide) | exact ixE (j := 0) rfl (by decide) (by decide) | exact ixE (j := 1) rfl (by decide) (by decide) | exact ixE (j := 2) rfl (by decide) (by decide)) ?_
    refine gF (by first | assumption | exact hm.obj | exact hm.arr _ rfl) ?_
    refine gF (by first | assumption | exact hm.obj | exact hm.arr _ rfl) ?_
    refine gA (by first | assumption | exact hm.obj | exact hm.arr _ rfl) (by first | exact ixN (by omega) (by decide) | exact ixz (by omega) (by decide) | exact ixa (a := 64) rfl (by omega) (by decide) | exact ixa (a := 128) rfl (by omega) (by decide) | exact ixa (a := 192) rfl (by omega) (by decide) | exact ixa (a := 256) rfl (by omega) (by decide) | exact ixa (a := 262) rfl (by omega) (by decide) | exact ixa (a := 268) rfl (by omega) (by decide) | exact ixa (a := 274) rfl (by omega) (by decide) | exact ixa (a := 348) rfl (by omega) (by decide) | exact ixa (a := 400) rfl (by omega) (by decide) | exact ixE (j := 0) rfl (by decide) (by decide) | exact ixE (j := 1) rfl (by decide) (by decide) | exact ixE (j := 2) rfl (by decide) (by decide)) ?_
    refine sA (by first | assumption | exact hm.obj | exact hm.arr _ rfl) (by first | exact ixN (by omega) (by decide) | exact ixz (by omega) (by decide) | exact ixa (a := 64) rfl (by omega) (by decide) | exact ixa (a := 128) rfl (by omega) (by decide) | exact ixa (a := 192) rfl (by omega) (by decide) | exact ixa (a := 256) rfl (by omega) (by decide) | exact ixa (a := 262) rfl (by omega) (by decide) | exact ixa (a := 268) rfl (by omega) (by decide) | exact ixa (a := 274) rfl (by omega) (by decide) | exact ixa (a := 348) rfl (by omega) (by decide) | exact ixa (a := 400) rfl (by omega) (by decide) | exact ixE (j := 0) rfl (by decide) (by decide) | exact ixE (j := 1) rfl (by decide) (by decide) | exact ixE (j := 2) rfl (by decide) (by decide)) (by first | exact hm.N | exact hm.No _) ?_
    intro h28 e28
    have hm := hm.uA e28 rfl; have hf := hf.uA e28 (by decide)
    rw [up2_as] at hm
    refine gF (by first | assumption | exact hm.obj | exact hm.arr _ rfl) ?_
    refine gF (by first | assumption | exact hm.obj | exact hm.arr _ rfl) ?_
    refine gA (by first | assumption | exact hm.obj | exact hm.arr _ rfl) (by first | exact ixN (by omega) (by decide) | exact ixz (by omega) (by decide) | exact ixa (a := 64) rfl (by omega) (by decide) | exact ixa (a := 128) rfl (by omega) (by decide) | exact ixa (a := 192) rfl (by omega) (by decide) | exact ixa (a := 256) rfl (by omega) (by decide) | exact ixa (a := 262) rfl (by omega) (by decide) | exact ixa (a := 268) rfl (by omega) (by decide) | exact ixa (a := 274) rfl (by omega) (by decide) | exact ixa (a := 348) rfl (by omega) (by decide) | exact ixa (a := 400) rfl (by omega) (by decide) | exact ixE (j := 0) rfl (by decide) (by decide) | exact ixE (j := 1) rfl (by decide) (by decide) | exact ixE (j := 2) rfl (by decide) (by decide)) ?_
    refine sA (by first | assumption | exact hm.obj | exact hm.arr _ rfl) (by first | exact ixN (by omega) (by decide) | exact ixz (by omega) (by decide) | exact ixa (a := 64) rfl (by omega) (by decide) | exact ixa (a := 128) rfl (by omega) (by decide) | exact ixa (a := 192) rfl (by omega) (by decide) | exact ixa (a := 256) rfl (by omega) (by decide) | exact ixa (a := 262) rfl (by omega) (by decide) | exact ixa (a := 268) rfl (by omega) (by decide) | exact ixa (a := 274) rfl (by omega) (by decide) | exact ixa (a := 348) rfl (by omega) (by decide) | exact ixa (a := 400) rfl (by omega) (by decide) | exact ixE (j := 0) rfl (by decide) (by decide) | exact ixE (j := 1) rfl (by decide) (by decide) | exact ixE (j := 2) rfl (by decide) (by decide)) (by first | exact hm.N | exact hm.No _) ?_
    intro h40 e40
    have hm := hm.uA e40 rfl; have hf := hf.uA e40 (by decide)
    rw [up2_set] at hm
    refine gF (by first | assumption | exact hm.obj | exact hm.arr _ rfl) ?_
    refine gF (by first | assumption | exact hm.obj | exact hm.arr _ rfl) ?_
    refine gF (by first | assumption | exact hm.obj | exact hm.arr _ rfl) ?_
    refine gA (by first | assumption | exact hm.obj | exact hm.arr _ rfl) (by first | exact ixN (by omega) (by decide) | exact ixz (by omega) (by decide) | exact ixa (a := 64) rfl (by omega) (by decide) | exact ixa (a := 128) rfl (by omega) (by decide) | exact ixa (a := 192) rfl (by omega) (by decide) | exact ixa (a := 256) rfl (by omega) (by decide) | exact ixa (a := 262) rfl (by omega) (by decide) | exact ixa (a := 268) rfl (by omega) (by decide) | exact ixa (a := 274) rfl (by omega) (by decide) | exact ixa (a := 348) rfl (by omega) (by decide) | exact ixa (a := 400) rfl (by omega) (by decide) | exact ixE (j := 0) rfl (by decide) (by decide) | exact ixE (j := 1) rfl (by decide) (by decide) | exact ixE (j := 2) rfl (by decide) (by decide)) ?_
    refine sA (by first | assumption | exact hm.obj | exact hm.arr _ rfl) (by first | exact ixN (by omega) (by decide) | exact ixz (by omega) (by decide) | exact ixa (a := 64) rfl (by omega) (by decide) | exact ixa (a := 128) rfl (by omega) (by decide) | exact ixa (a := 192) rfl (by omega) (by decide) | exact ixa (a := 256) rfl (by omega) (by decide) | exact ixa (a := 262) rfl (by omega) (by decide) | exact ixa (a := 268) rfl (by omega) (by decide) | exact ixa (a := 274) rfl (by omega) (by decide) | exact ixa (a := 348) rfl (by omega) (by decide) | exact ixa (a := 400) rfl (by omega) (by decide) | exact ixE (j := 0) rfl (by decide) (by decide) | exact ixE (j := 1) rfl (by decide) (by decide) | exact ixE (j := 2) rfl (by decide) (by decide)) (by first | exact hm.N | exact hm.No _) ?_
    intro h63 e63
    have hm := hm.uA e63 rfl; have hf := hf.uA e63 (by decide)
    rw [up2_set] at hm
    refine gF (by first | assumption | exact hm.obj | exact hm.arr _ rfl) ?_
    refine And.intro (fun b71 => ?_) (fun b71 => ?_)
    · simp only [cP, cN, bI_0, Bool.not_eq_false, lt_nle, Decidable.not_not] at b71
      exact j80 _ _ _ (by unfold dmpM; rw [if_neg (by rw [Int32.not_lt]; exact b71)]) hm hf
    · simp only [cP, cN, bI_0, Bool.not_eq_false, lt_nle, Decidable.not_not] at b71
      exact j80 _ _ _ (by unfold dmpM; rw [if_pos (lt_nle.mpr b71)]) hm hf
def thkF (S : SS) : SS := setF S 18 (cpy 64 (S 18) (fun j => S 1 (64 + j)))
theorem k_thinksOfSizes : CtS mX3_thinksOfSizes 1 (mV0 (fun (a : Unit) S => True) (fun (a : Unit) S S' => S' = thkF S)) := by
  intro l G d hd as h z Q hs
  match as, hs with
  | [.ref b], hs =>
    obtain ⟨S, a, hm, hp, hs⟩ := hs
    replace hp : True := hp
    replace hs : ∀ S' h', (S' = thkF S) → IsMod G b S' h' → FrM b h h' → Q none h' := hs
    have hf : FrM b h h := FrM.rf
    refine Ct.of rfl (Nat.le_of_ble_eq_true rfl) rfl ?_
    have loop : ∀ (n c : Nat) (i : Int32) (h1 : AH), c + n = 64 → i = nI c → (IsMod G b (setF S 18 (cpy c (S 18) (fun j => S 1 (64 + j)))) h1) → (FrM b h h1) → X l G mX3_thinksOfSizes (rmK d 0 0) (TGm G (fun v h' z' => Q v h' ∧ z' = z) 0 0) 0 0 2 [(0, .ref b), (1, .int i)] [] h1 z := by
      intro  n
      induction n using Nat.strongRecOn with
      | _ n ih =>
      intro c i h1  hc hi hm hf
      subst hi
      refine X.w wkX3_thinksOfSizes fnil [2] 17 rfl ?_
      refine And.intro (fun b5 => ?_) (fun b5 => ?_)
      · simp only [cP, cN, bI_0, Bool.not_eq_false, lt_nle, Decidable.not_not] at b5
        have hc2 : 64 ≤ c := (le64 (by omega) (by omega)).mp b5
        obtain rfl : c = 64 := by omega
        exact And.intro (hs _ _ rfl hm hf) rfl
      · simp only [cP, cN, bI_0, Bool.not_eq_false, lt_nle, Decidable.not_not] at b5
        have hc2 : c < 64 := nle64 b5 (by omega) (by omega)
        refine gF (by first | assumption | exact hm.obj | exact hm.arr _ rfl) ?_
        refine gF (by first | assumption | exact hm.obj | exact hm.arr _ rfl) ?_
        refine gA (by first | assumption | exact hm.obj | exact hm.arr _ rfl) (by first | exact ixN (by omega) (by decide) | exact ixz (by omega) (by decide) | exact ixa (a := 64) rfl (by omega) (by decide) | exact ixa (a := 128) rfl (by omega) (by decide) | exact ixa (a := 192) rfl (by omega) (by decide) | exact ixa (a := 256) rfl (by omega) (by decide) | exact ixa (a := 262) rfl (by omega) (by decide) | exact ixa (a := 268) rfl (by omega) (by decide) | exact ixa (a := 274) rfl (by omega) (by decide) | exact ixa (a := 348) rfl (by omega) (by decide) | exact ixa (a := 400) rfl (by omega) (by decide)) ?_
        refine sA (by first | assumption | exact hm.obj | exact hm.arr _ rfl) (by first | exact ixN (by omega) (by decide) | exact ixz (by omega) (by decide) | exact ixa (a := 64) rfl (by omega) (by decide) | exact ixa (a := 128) rfl (by omega) (by decide) | exact ixa (a := 192) rfl (by omega) (by decide) | exact ixa (a := 256) rfl (by omega) (by decide) | exact ixa (a := 262) rfl (by omega) (by decide) | exact ixa (a := 268) rfl (by omega) (by decide) | exact ixa (a := 274) rfl (by omega) (by decide) | exact ixa (a := 348) rfl (by omega) (by decide) | exact ixa (a := 400) rfl (by omega) (by decide)) (by first | exact hm.N | exact hm.No _) ?_
        intro h22 e22
        have hm := hm.uA e22 rfl; have hf := hf.uA e22 (by decide)
        rw [up2_set] at hm
        refine ih (n - 1) (by omega) (c + 1) _ _ (by omega) (nI_1 c) ?_ hf
        rw [← cpy_s]
        exact hm
    refine X.w wkX3_thinksOfSizes fnil [2] 4 rfl ?_
    exact loop 64 0 _ _ rfl rfl (by rw [cpy_0, setF_self]; exact hm) hf
theorem askF_chg {S S1 : SS} (h0 : S1 0 = S 0) (h1 : S1 1 = S 1) (h3 : S1 3 = S 3) (h18 : S1 18 = S 18) (c : Nat) (y fz : Int32) : askF S1 c y fz = askF S c y fz := by
  funext k
  unfold askF dmpM cbsM cbM capM
  rw [h0, h1, h3, h18]
def grwM (S : SS) (L : List Line9) (y fz : Int32) (c : Nat) : Int32 := clampI 0 999 (S 18 c + growsF (askF S c y fz) L)
theorem k_allGrow : CtS mX3_allGrow 5 (mV2 (fun (a : List Line9) y fz S => LawR a S) (fun (a : List Line9) y fz S S' => Chg [16, 17, 18, 19] S S' ∧ ∀ c, c < 64 → capM S c = true → S' 18 c = grwM S a y fz c)) := by
  intro l G d hd as h z Q hs
  match as, hs with
  | [.ref b, .int y, .int fz], hs =>
    obtain ⟨S, a, hm, hp, hs⟩ := hs
    replace hp : LawR a S := hp
    replace hs : ∀ S' h', (Chg [16, 17, 18, 19] S S' ∧ ∀ c, c < 64 → capM S c = true → S' 18 c = grwM S a y fz c) → IsMod G b S' h' → FrM b h h' → Q none h' := hs
    have hf : FrM b h h := FrM.rf
    refine Ct.of rfl (Nat.le_of_ble_eq_true rfl) rfl ?_
    have loop2 : ∀ (S2 : SS) (hg2 : Chg [16, 17, 19] S S2) (hv2 : ∀ j, j < 64 → capM S j = true → S2 19 j = grwM S a y fz j) (n c : Nat) (i : Int32)  (S1 : SS) (h1 : AH) , c + n = 64 → i = nI c → (Chg [18] S2 S1) → (∀ j, j < c → capM S j = true → S1 18 j = grwM S a y fz j) → (IsMod G b S1 h1) → (FrM b h h1) → X l G mX3_allGrow (rmK d 0 0) (TGm G (fun v h' z' => Q v h' ∧ z' = z) 0 0) 0 0 77 [(0, .ref b), (1, .int y), (2, .int fz), (3, .int i)] [] h1 z := by
      intro S2 hg2 hv2 n
      induction n using Nat.strongRecOn with
      | _ n ih =>
      intro c i  S1 h1 hc hi hg hv hm hf
      subst hi
      have e1 : S1 1 = S 1 := (hg 1 rfl).trans (hg2 1 rfl)
      refine X.w wkX3_allGrow (fcons (ceV k_growsBy mmW3 ckX3_262 rfl mrW3 (by omega) rfl) fnil) [77] 22 rfl ?_
      refine And.intro (fun b80 => ?_) (fun b80 => ?_)
      · simp only [cP, cN, bI_0, Bool.not_eq_false, lt_nle, Decidable.not_not] at b80
        have hc2 : 64 ≤ c := (le64 (by omega) (by omega)).mp b80
        obtain rfl : c = 64 := by omega
        exact And.intro (hs _ _ ⟨(hg2.sub rfl).tr (hg.sub rfl), hv⟩ hm hf) rfl
      · simp only [cP, cN, bI_0, Bool.not_eq_false, lt_nle, Decidable.not_not] at b80
        have hc2 : c < 64 := nle64 b80 (by omega) (by omega)
        refine gF (by first | assumption | exact hm.obj | exact hm.arr _ rfl) ?_
        refine gA (by first | assumption | exact hm.obj | exact hm.arr _ rfl) (by first | exact ixN (by omega) (by decide) | exact ixz (by omega) (by decide) | exact ixa (a := 64) rfl (by omega) (by decide) | exact ixa (a := 128) rfl (by omega) (by decide) | exact ixa (a := 192) rfl (by omega) (by decide) | exact ixa (a := 256) rfl (by omega) (by decide) | exact ixa (a := 262) rfl (by omega) (by decide) | exact ixa (a := 268) rfl (by omega) (by decide) | exact ixa (a := 274) rfl (by omega) (by decide) | exact ixa (a := 348) rfl (by omega) (by decide) | exact ixa (a := 400) rfl (by omega) (by decide)) ?_
        refine And.intro (fun b91 => ?_) (fun b91 => ?_)
        · simp only [cP, cN, bI_0, Bool.not_eq_false, lt_nle, Decidable.not_not] at b91
          refine ih (n - 1) (by omega) (c + 1) _ _ _ (by omega) (nI_1 c) hg ?_ hm hf
          intro j hj hcap
          by_cases e : j = c
          · subst e
            unfold capM at hcap
            rw [← e1] at hcap
            exact absurd b91 (by rw [← lt_nle]; exact of_decide_eq_true hcap)
          · exact hv j (by omega) hcap
        · simp only [cP, cN, bI_0, Bool.not_eq_false, lt_nle, Decidable.not_not] at b91
          refine gF (by first | assumption | exact hm.obj | exact hm.arr _ rfl) ?_
          refine gF (by first | assumption | exact hm.obj | exact hm.arr _ rfl) ?_
          refine gA (by first | assumption | exact hm.obj | exact hm.arr _ rfl) (by first | exact ixN (by omega) (by decide) | exact ixz (by omega) (by decide) | exact ixa (a := 64) rfl (by omega) (by decide) | exact ixa (a := 128) rfl (by omega) (by decide) | exact ixa (a := 192) rfl (by omega) (by decide) | exact ixa (a := 256) rfl (by omega) (by decide) | exact ixa (a := 262) rfl (by omega) (by decide) | exact ixa (a := 268) rfl (by omega) (by decide) | exact ixa (a := 274) rfl (by omega) (by decide) | exact ixa (a := 348) rfl (by omega) (by decide) | exact ixa (a := 400) rfl (by omega) (by decide)) ?_
          refine sA (by first | assumption | exact hm.obj | exact hm.arr _ rfl) (by first | exact ixN (by omega) (by decide) | exact ixz (by omega) (by decide) | exact ixa (a := 64) rfl (by omega) (by decide) | exact ixa (a := 128) rfl (by omega) (by decide) | exact ixa (a := 192) rfl (by omega) (by decide) | exact ixa (a := 256) rfl (by omega) (by decide) | exact ixa (a := 262) rfl (by omega) (by decide) | exact ixa (a := 268) rfl (by omega) (by decide) | exact ixa (a := 274) rfl (by omega) (by decide) | exact ixa (a := 348) rfl (by omega) (by decide) | exact ixa (a := 400) rfl (by omega) (by decide)) (by first | exact hm.N | exact hm.No _) ?_
          intro h105 e105
          have hm := hm.uA e105 rfl; have hf := hf.uA e105 (by decide)
          refine ih (n - 1) (by omega) (c + 1) _ _ _ (by omega) (nI_1 c) (hg.up rfl) ?_ hm hf
          intro j hj hcap
          by_cases e : j = c
          · subst e
            show upd _ _ _ _ = _
            rw [pk_us, hg 19 rfl]
            exact hv2 j hc2 hcap
          · show upd _ _ _ _ = _
            rw [pk_un e]
            exact hv j (by omega) hcap
    have loop1 : ∀ (n c : Nat) (i : Int32)  (S1 : SS) (h1 : AH) , c + n = 64 → i = nI c → (Chg [16, 17, 19] S S1) → (∀ j, j < c → capM S j = true → S1 19 j = grwM S a y fz j) → (IsMod G b S1 h1) → (FrM b h h1) → X l G mX3_allGrow (rmK d 0 0) (TGm G (fun v h' z' => Q v h' ∧ z' = z) 0 0) 0 0 2 [(0, .ref b), (1, .int y), (2, .int fz), (3, .int i)] [] h1 z := by
      intro  n
      induction n using Nat.strongRecOn with
      | _ n ih =>
      intro c i  S1 h1 hc hi hg hv hm hf
      subst hi
      have e1 : S1 1 = S 1 := hg 1 rfl
      have hask : askF S1 c y fz = askF S c y fz := askF_chg (hg 0 rfl) e1 (hg 3 rfl) (hg 18 rfl) c y fz
      have hL1 : LawR a S1 := hp.chg (by rw [hg 0 rfl]) (hg 13 rfl) (hg 14 rfl) (hg 10 rfl) (hg 11 rfl) (hg 12 rfl)
      have nx : ∀ (x dv : Int32) (S3 : SS) (h3 : AH), Chg [16, 17] S1 S3 → x = grwM S a y fz c → c < 64 → IsMod G b S3 h3 → FrM b h h3 → X l G mX3_allGrow (rmK d 0 0) (TGm G (fun v h' z' => Q v h' ∧ z' = z) 0 0) 0 0 68 [(0, .ref b), (1, .int y), (2, .int fz), (3, .int (nI c)), (4, .int dv)] [.int x, .int (nI c), .ref (b + 19)] h3 z := by
        intro x dv S3 h3 hg3 hx hc2 hm hf
        refine X.w wkX3_allGrow (fcons (ceV k_growsBy mmW3 ckX3_262 rfl mrW3 (by omega) rfl) fnil) [2] 5 rfl ?_
        refine sA (by first | assumption | exact hm.obj | exact hm.arr _ rfl) (by first | exact ixN (by omega) (by decide) | exact ixz (by omega) (by decide) | exact ixa (a := 64) rfl (by omega) (by decide) | exact ixa (a := 128) rfl (by omega) (by decide) | exact ixa (a := 192) rfl (by omega) (by decide) | exact ixa (a := 256) rfl (by omega) (by decide) | exact ixa (a := 262) rfl (by omega) (by decide) | exact ixa (a := 268) rfl (by omega) (by decide) | exact ixa (a := 274) rfl (by omega) (by decide) | exact ixa (a := 348) rfl (by omega) (by decide) | exact ixa (a := 400) rfl (by omega) (by decide)) (by first | exact hm.N | exact hm.No _) ?_
        intro h68 e68
        have hm := hm.uA e68 rfl; have hf := hf.uA e68 (by decide)
        refine X.cut [(0, .ref b), (1, .int y), (2, .int fz), (3, .int (nI c + 1))] [(4, .int dv)] rfl ?_
        refine ih (n - 1) (by omega) (c + 1) _ _ _ (by omega) (nI_1 c) ((hg.tr (hg3.sub rfl)).up rfl) ?_ hm hf
        intro j hj hcap
        by_cases e : j = c
        · subst e
          show upd _ _ _ _ = _
          rw [pk_us]
          exact hx
        · show upd _ _ _ _ = _
          rw [pk_un e, hg3 19 rfl]
          exact hv j (by omega) hcap
      refine X.w wkX3_allGrow (fcons (ceV k_growsBy mmW3 ckX3_262 rfl mrW3 (by omega) rfl) fnil) [2, 68, 77] 33 rfl ?_
      refine And.intro (fun b5 => ?_) (fun b5 => ?_)
      · simp only [cP, cN, bI_0, Bool.not_eq_false, lt_nle, Decidable.not_not] at b5
        have hc2 : 64 ≤ c := (le64 (by omega) (by omega)).mp b5
        obtain rfl : c = 64 := by omega
        exact loop2 S1 hg hv 64 0 _ _ _ rfl rfl Chg.rf (fun j hj => absurd hj (Nat.not_lt_zero j)) hm hf
      · simp only [cP, cN, bI_0, Bool.not_eq_false, lt_nle, Decidable.not_not] at b5
        have hc2 : c < 64 := nle64 b5 (by omega) (by omega)
        refine gF (by first | assumption | exact hm.obj | exact hm.arr _ rfl) ?_
        refine gA (by first | assumption | exact hm.obj | exact hm.arr _ rfl) (by first | exact ixN (by omega) (by decide) | exact ixz (by omega) (by decide) | exact ixa (a := 64) rfl (by omega) (by decide) | exact ixa (a := 128) rfl (by omega) (by decide) | exact ixa (a := 192) rfl (by omega) (by decide) | exact ixa (a := 256) rfl (by omega) (by decide) | exact ixa (a := 262) rfl (by omega) (by decide) | exact ixa (a := 268) rfl (by omega) (by decide) | exact ixa (a := 274) rfl (by omega) (by decide) | exact ixa (a := 348) rfl (by omega) (by decide) | exact ixa (a := 400) rfl (by omega) (by decide)) ?_
        refine And.intro (fun b16 => ?_) (fun b16 => ?_)
        · simp only [cP, cN, bI_0, Bool.not_eq_false, lt_nle, Decidable.not_not] at b16
          refine gF (by first | assumption | exact hm.obj | exact hm.arr _ rfl) ?_
          refine gA (by first | assumption | exact hm.obj | exact hm.arr _ rfl) (by first | exact ixN (by omega) (by decide) | exact ixz (by omega) (by decide) | exact ixa (a := 64) rfl (by omega) (by decide) | exact ixa (a := 128) rfl (by omega) (by decide) | exact ixa (a := 192) rfl (by omega) (by decide) | exact ixa (a := 256) rfl (by omega) (by decide) | exact ixa (a := 262) rfl (by omega) (by decide) | exact ixa (a := 268) rfl (by omega) (by decide) | exact ixa (a := 274) rfl (by omega) (by decide) | exact ixa (a := 348) rfl (by omega) (by decide) | exact ixa (a := 400) rfl (by omega) (by decide)) ?_
          refine Exists.intro _ (Exists.intro (c, a) (And.intro hm (And.intro ⟨rfl, hc2, hL1⟩ ?_)))
          intro v32 S32 h32 p32 hm hf32
          have hf := hf.tr hf32
          (try dsimp only at p32)
          obtain ⟨ev, hg3⟩ := p32
          rw [hask] at ev
          have e18 : S1 18 c = S 18 c := by rw [hg 18 rfl]
          refine gF (by first | assumption | exact hm.obj | exact hm.arr _ rfl) ?_
          refine And.intro (fun b45 => ?_) (fun b45 => ?_)
          · simp only [cP, cN, bI_0, Bool.not_eq_false, lt_nle, Decidable.not_not] at b45
            refine And.intro (fun b57 => ?_) (fun b57 => ?_)
            · simp only [cP, cN, bI_0, Bool.not_eq_false, lt_nle, Decidable.not_not] at b57
              refine nx _ _ _ _ hg3 ?_ hc2 hm hf
              unfold grwM
              rw [← e18, ← ev]
              exact clampM (by decide) (fun q => absurd q (by rw [Int32.not_lt]; exact b45)) (fun _ q2 => absurd q2 (by rw [Int32.not_lt]; exact b57)) (fun _ _ => rfl)
            · simp only [cP, cN, bI_0, Bool.not_eq_false, lt_nle, Decidable.not_not] at b57
              refine nx _ _ _ _ hg3 ?_ hc2 hm hf
              unfold grwM
              rw [← e18, ← ev]
              exact clampM (by decide) (fun q => absurd q (by rw [Int32.not_lt]; exact b45)) (fun _ _ => rfl) (fun _ q2 => absurd (lt_nle.mpr b57) q2)
          · simp only [cP, cN, bI_0, Bool.not_eq_false, lt_nle, Decidable.not_not] at b45
            refine nx _ _ _ _ hg3 ?_ hc2 hm hf
            unfold grwM
            rw [← e18, ← ev]
            exact clampM (by decide) (fun _ => rfl) (fun q => absurd (lt_nle.mpr b45) q) (fun q => absurd (lt_nle.mpr b45) q)
        · simp only [cP, cN, bI_0, Bool.not_eq_false, lt_nle, Decidable.not_not] at b16
          refine ih (n - 1) (by omega) (c + 1) _ _ _ (by omega) (nI_1 c) hg ?_ hm hf
          intro j hj hcap
          by_cases e : j = c
          · subst e
            unfold capM at hcap
            rw [← e1, b16] at hcap
            exact absurd hcap (by decide)
          · exact hv j (by omega) hcap
    refine X.w wkX3_allGrow (fcons (ceV k_growsBy mmW3 ckX3_262 rfl mrW3 (by omega) rfl) fnil) [2] 4 rfl ?_
    exact loop1 64 0 _ _ _ rfl rfl Chg.rf (fun j hj => absurd hj (Nat.not_lt_zero j)) hm hf
