set_option maxRecDepth 100000
/-! soup in the model -/
theorem nx_and (a b : Nat) : nI a &&& nI b = nI (a &&& b) := by
  apply Int32.toBitVec_inj.1
  show BitVec.ofNat 32 a &&& BitVec.ofNat 32 b = BitVec.ofNat 32 (a &&& b)
  apply BitVec.eq_of_getLsbD_eq
  intro i hi
  simp [hi]
def onF : Nat → Nat → Nat
  | 0, _ => 0
  | f + 1, n => if n = 0 then 0 else 1 + onF f (n &&& (n - 1))
theorem k_ones : CtS mX3_ones 1 (mR1 (fun (a : Nat) u S => u = nI a ∧ a < 4096) (fun (a : Nat) u S => nI (onF a a))) := by
  intro l G d hd as h z Q hs
  match as, hs with
  | [.ref b, .int u], hs =>
    obtain ⟨S, a, hm, hp, hs⟩ := hs
    replace hp : u = nI a ∧ a < 4096 := hp
    replace hs : ∀ r9, r9 = nI (onF a a) → Q (some (.int r9)) h := hs
    have hf : FrM b h h := FrM.rf
    refine Ct.of rfl (Nat.le_of_ble_eq_true rfl) rfl ?_
    obtain ⟨rfl, ha⟩ := hp
    have loop : ∀ (f x y : Nat) (i v : Int32), x ≤ f → x < 4096 → y + onF f x = onF a a → v = nI y → i = nI x → X l G mX3_ones (rmK d 0 0) (TGm G (fun v h' z' => Q v h' ∧ z' = z) 0 0) 0 0 4 [(0, .ref b), (1, .int (nI a)), (2, .int v), (3, .int i)] [] h z := by
      intro f
      induction f with
      | zero =>
        intro x y i v hx hx2 hy hv hi
        subst hi
        subst hv
        obtain rfl : x = 0 := by omega
        refine X.w wkX3_ones fnil [4] 5 rfl ?_
        refine And.intro (fun b5 => ?_) (fun b5 => ?_)
        · simp only [cP, cN, bI_0, Bool.not_eq_false, lt_nle, Decidable.not_not] at b5
          exact And.intro (hs _ (by rw [← hy]; rfl)) rfl
        · simp only [cP, cN, bI_0, Bool.not_eq_false, lt_nle, Decidable.not_not] at b5
          exact absurd rfl b5
      | succ f ih =>
        intro x y i v hx hx2 hy hv hi
        subst hi
        subst hv
        refine X.w wkX3_ones fnil [4] 15 rfl ?_
        refine And.intro (fun b5 => ?_) (fun b5 => ?_)
        · simp only [cP, cN, bI_0, Bool.not_eq_false, lt_nle, Decidable.not_not] at b5
          have hx0 : x = 0 := (nI_eq (by omega) (by decide)).mp b5
          exact And.intro (hs _ (by rw [← hy, onF, if_pos hx0]; rfl)) rfl
        · simp only [cP, cN, bI_0, Bool.not_eq_false, lt_nle, Decidable.not_not] at b5
          have hx0 : 0 < x := by
            rcases Nat.eq_zero_or_pos x with e | e
            · rw [e] at b5; exact absurd rfl b5
            · exact e
          have hle : x &&& (x - 1) ≤ x - 1 := Nat.and_le_right
          refine ih (x &&& (x - 1)) (y + 1) _ _ (by omega) (by omega) ?_ (nI_1 y) ?_
          · rw [← hy, onF, if_neg (by omega)]; omega
          · rw [show (1 : Int32) = nI 1 from rfl, pk_sub hx0, nx_and]
    refine X.w wkX3_ones fnil [4] 6 rfl ?_
    exact loop a a 0 _ _ (Nat.le_refl a) ha (by omega) rfl rfl
def plM (S : SS) (c : Nat) : Int32 := S 21 (gN (S 1 c - 1))
/-- the way from fr to the cap c and on, the words l lacking -/
def wbM (S : SS) (fr : Int32) (l c : Nat) : Int32 := if S 1 c = 0 then 1000000 else if plM S c = -1 then 1000000 else if (nI l >>> (plM S c &&& 31)) &&& 1 = 0 then 1000000 else farI fr (nI c) + S 20 (64 * (l - 2 ^ gN (plM S c)) + c)
def SoOk (S : SS) : Prop := wdM S ∧ (∀ c, c < 64 → 0 ≤ S 1 c) ∧ ∀ w, w < 12 → S 21 w = -1 ∨ ∃ k, k < 6 ∧ S 21 w = nI k
theorem bit_clr : ∀ l, l < 64 → ∀ k, k < 6 → ¬ ((nI l >>> (nI k &&& 31)) &&& 1 = 0) → nI l &&& (((1 : Int32) <<< (nI k &&& 31)) ^^^ (-1)) = nI (l - 2 ^ k) ∧ 2 ^ k ≤ l := by decide +kernel
theorem k_wayBy : CtS mX3_wayBy 3 (mR3 (fun (a : Nat × Nat) fr u w S => u = nI a.1 ∧ a.1 < 64 ∧ w = nI a.2 ∧ a.2 < 64 ∧ SoOk S) (fun (a : Nat × Nat) fr u w S => wbM S fr a.2 a.1)) := by
  intro l G d hd as h z Q hs
  match as, hs with
  | [.ref b, .int fr, .int u, .int w], hs =>
    obtain ⟨S, a, hm, hp, hs⟩ := hs
    replace hp : u = nI a.1 ∧ a.1 < 64 ∧ w = nI a.2 ∧ a.2 < 64 ∧ SoOk S := hp
    replace hs : ∀ r9, r9 = wbM S fr a.2 a.1 → Q (some (.int r9)) h := hs
    have hf : FrM b h h := FrM.rf
    refine Ct.of rfl (Nat.le_of_ble_eq_true rfl) rfl ?_
    obtain ⟨c, l0⟩ := a
    dsimp only at hp hs
    obtain ⟨rfl, hc, rfl, hl, hw1, hw2, hw3⟩ := hp
    refine X.w wkX3_wayBy (fcons (ceV k_farOf mmR2 ckX3_253 rfl mrR2 (by omega) rfl) fnil) [] 49 rfl ?_
    refine gF (by first | assumption | exact hm.obj | exact hm.arr _ rfl) ?_
    refine gA (by first | assumption | exact hm.obj | exact hm.arr _ rfl) (by first | exact ixN (by omega) (by decide) | exact ixz (by omega) (by decide) | exact ixa (a := 64) rfl (by omega) (by decide) | exact ixa (a := 128) rfl (by omega) (by decide) | exact ixa (a := 192) rfl (by omega) (by decide) | exact ixa (a := 256) rfl (by omega) (by decide) | exact ixa (a := 262) rfl (by omega) (by decide) | exact ixa (a := 268) rfl (by omega) (by decide) | exact ixa (a := 274) rfl (by omega) (by decide) | exact ixa (a := 348) rfl (by omega) (by decide) | exact ixa (a := 400) rfl (by omega) (by decide)) ?_
    refine And.intro (fun b8 => ?_) (fun b8 => ?_)
    · simp only [cP, cN, bI_0, Bool.not_eq_false, lt_nle, Decidable.not_not] at b8
      obtain ⟨k, hk, ek⟩ := hw1 c hc (decide_eq_true (lt_nle.mpr (fun q => b8 (Int32.le_antisymm q (hw2 c hc)))))
      have hpl : plM S c = S 21 k := by unfold plM; rw [ek, gN_nI (by omega)]
      refine gF (by first | assumption | exact hm.obj | exact hm.arr _ rfl) ?_
      refine gF (by first | assumption | exact hm.obj | exact hm.arr _ rfl) ?_
      refine gA (by first | assumption | exact hm.obj | exact hm.arr _ rfl) (by first | exact ixN (by omega) (by decide) | exact ixz (by omega) (by decide) | exact ixa (a := 64) rfl (by omega) (by decide) | exact ixa (a := 128) rfl (by omega) (by decide) | exact ixa (a := 192) rfl (by omega) (by decide) | exact ixa (a := 256) rfl (by omega) (by decide) | exact ixa (a := 262) rfl (by omega) (by decide) | exact ixa (a := 268) rfl (by omega) (by decide) | exact ixa (a := 274) rfl (by omega) (by decide) | exact ixa (a := 348) rfl (by omega) (by decide) | exact ixa (a := 400) rfl (by omega) (by decide)) ?_
      refine gA (by first | assumption | exact hm.obj | exact hm.arr _ rfl) (ixE ek hk (by decide)) ?_
      refine And.intro (fun b35 => ?_) (fun b35 => ?_)
      · simp only [cP, cN, bI_0, Bool.not_eq_false, lt_nle, Decidable.not_not] at b35
        exact And.intro (hs _ (by unfold wbM; rw [if_neg b8, hpl, if_pos b35])) rfl
      · simp only [cP, cN, bI_0, Bool.not_eq_false, lt_nle, Decidable.not_not] at b35
        refine And.intro (fun b44 => ?_) (fun b44 => ?_)
        · simp only [cP, cN, bI_0, Bool.not_eq_false, lt_nle, Decidable.not_not] at b44
          obtain ⟨j, hj, ej⟩ := (hw3 k hk).resolve_left b35
          have hb2 := b44
          rw [ej] at hb2
          obtain ⟨hb3, hb4⟩ := bit_clr l0 hl j hj hb2
          have hb5 : l0 - 2 ^ j ≤ l0 := Nat.sub_le _ _
          refine Exists.intro _ (Exists.intro () (And.intro hm (And.intro trivial ?_)))
          intro v54 e54
          subst e54
          refine gF (by first | assumption | exact hm.obj | exact hm.arr _ rfl) ?_
          refine gA (by first | assumption | exact hm.obj | exact hm.arr _ rfl) (ixE (j := 64 * (l0 - 2 ^ j) + c) (by rw [ej, hb3, show (64 : Int32) = nI 64 from rfl, pk_mul, nI_add]) (by omega) (by decide)) ?_
          exact And.intro (hs _ (by unfold wbM; rw [if_neg b8, hpl, if_neg b35, if_neg b44, ej, gN_nI (by omega)])) rfl
        · simp only [cP, cN, bI_0, Bool.not_eq_false, lt_nle, Decidable.not_not] at b44
          exact And.intro (hs _ (by unfold wbM; rw [if_neg b8, hpl, if_neg b35, if_pos b44])) rfl
    · simp only [cP, cN, bI_0, Bool.not_eq_false, lt_nle, Decidable.not_not] at b8
      exact And.intro (hs _ (by unfold wbM; rw [if_pos b8])) rfl
def wfM (S : SS) (fr : Int32) (l : Nat) : Int32 := if l = 0 then 0 else foldN (fun _ => true) (fun c x => if wbM S fr l c < x then wbM S fr l c else x) 1000000 64
theorem k_wayFrom : CtS mX3_wayFrom 4 (mR2 (fun (a : Nat) fr w S => w = nI a ∧ a < 64 ∧ SoOk S) (fun (a : Nat) fr w S => wfM S fr a)) := by
  intro l G d hd as h z Q hs
  match as, hs with
  | [.ref b, .int fr, .int w], hs =>
    obtain ⟨S, a, hm, hp, hs⟩ := hs
    replace hp : w = nI a ∧ a < 64 ∧ SoOk S := hp
    replace hs : ∀ r9, r9 = wfM S fr a → Q (some (.int r9)) h := hs
    have hf : FrM b h h := FrM.rf
    refine Ct.of rfl (Nat.le_of_ble_eq_true rfl) rfl ?_
    obtain ⟨rfl, hl, hso⟩ := hp
    rcases Nat.eq_zero_or_pos a with ha | ha
    · subst ha
      refine X.w wkX3_wayFrom (fcons (ceV k_wayBy mmR3 ckX3_288 rfl mrR3 (by omega) rfl) fnil) [] 15 rfl ?_
      refine And.intro (fun b1 => ?_) (fun b1 => ?_)
      · simp only [cP, cN, bI_0, Bool.not_eq_false, lt_nle, Decidable.not_not] at b1
        exact absurd rfl b1
      · simp only [cP, cN, bI_0, Bool.not_eq_false, lt_nle, Decidable.not_not] at b1
        refine And.intro (fun b19 => ?_) (fun b19 => ?_)
        · simp only [cP, cN, bI_0, Bool.not_eq_false, lt_nle, Decidable.not_not] at b19
          exact absurd b19 (by decide)
        · simp only [cP, cN, bI_0, Bool.not_eq_false, lt_nle, Decidable.not_not] at b19
          refine And.intro (fun b23 => ?_) (fun b23 => ?_)
          · simp only [cP, cN, bI_0, Bool.not_eq_false, lt_nle, Decidable.not_not] at b23
            exact And.intro (hs _ rfl) rfl
          · simp only [cP, cN, bI_0, Bool.not_eq_false, lt_nle, Decidable.not_not] at b23
            exact absurd rfl b23
    · have hne : ¬ nI a = 0 := nI_ne0 ha (by omega)
      have loop : ∀ (n c : Nat) (i : Int32) (v : Int32), c + n = 64 → i = nI c → (v = foldN (fun _ => true) (fun c x => if wbM S fr a c < x then wbM S fr a c else x) 1000000 c) → X l G mX3_wayFrom (rmK d 0 0) (TGm G (fun v h' z' => Q v h' ∧ z' = z) 0 0) 0 0 15 [(0, .ref b), (1, .int fr), (2, .int (nI a)), (3, .int v), (4, .int i)] [] h z := by
        intro  n
        induction n using Nat.strongRecOn with
        | _ n ih =>
        intro c i v  hc hi hv
        subst hi
        refine X.w wkX3_wayFrom (fcons (ceV k_wayBy mmR3 ckX3_288 rfl mrR3 (by omega) rfl) fnil) [15] 21 rfl ?_
        refine And.intro (fun b19 => ?_) (fun b19 => ?_)
        · simp only [cP, cN, bI_0, Bool.not_eq_false, lt_nle, Decidable.not_not] at b19
          have hc2 : 64 ≤ c := (le64 (by omega) (by omega)).mp b19
          obtain rfl : c = 64 := by omega
          exact And.intro (hs _ (by unfold wfM; rw [if_neg (by omega)]; exact hv)) rfl
        · simp only [cP, cN, bI_0, Bool.not_eq_false, lt_nle, Decidable.not_not] at b19
          have hc2 : c < 64 := nle64 b19 (by omega) (by omega)
          refine And.intro (fun b23 => ?_) (fun b23 => ?_)
          · simp only [cP, cN, bI_0, Bool.not_eq_false, lt_nle, Decidable.not_not] at b23
            exact absurd b23 hne
          · simp only [cP, cN, bI_0, Bool.not_eq_false, lt_nle, Decidable.not_not] at b23
            refine Exists.intro _ (Exists.intro (c, a) (And.intro hm (And.intro ⟨rfl, hc2, rfl, hl, hso⟩ ?_)))
            intro v31 e31
            (try dsimp only at e31)
            refine And.intro (fun b39 => ?_) (fun b39 => ?_)
            · simp only [cP, cN, bI_0, Bool.not_eq_false, lt_nle, Decidable.not_not] at b39
              refine X.cut [(0, .ref b), (1, .int fr), (2, .int (nI a)), (3, .int v), (4, .int (nI c + 1))] [(5, .int v31)] rfl ?_
              refine ih (n - 1) (by omega) (c + 1) _ _ (by omega) (nI_1 c) ?_
              rw [foldN_t rfl, ← hv, ← e31, if_neg (by rw [Int32.not_lt]; exact b39)]
            · simp only [cP, cN, bI_0, Bool.not_eq_false, lt_nle, Decidable.not_not] at b39
              refine X.cut [(0, .ref b), (1, .int fr), (2, .int (nI a)), (3, .int v31), (4, .int (nI c + 1))] [(5, .int v31)] rfl ?_
              refine ih (n - 1) (by omega) (c + 1) _ _ (by omega) (nI_1 c) ?_
              rw [foldN_t rfl, ← hv, ← e31, if_pos (lt_nle.mpr b39)]
      refine X.w wkX3_wayFrom (fcons (ceV k_wayBy mmR3 ckX3_288 rfl mrR3 (by omega) rfl) fnil) [15] 8 rfl ?_
      refine And.intro (fun b1 => ?_) (fun b1 => ?_)
      · simp only [cP, cN, bI_0, Bool.not_eq_false, lt_nle, Decidable.not_not] at b1
        exact loop 64 0 _ _ rfl rfl rfl
      · simp only [cP, cN, bI_0, Bool.not_eq_false, lt_nle, Decidable.not_not] at b1
        exact absurd b1 hne
def cb (s : Nat) : Nat → Nat
  | 0 => 0
  | w + 1 => cb s w + s / 2 ^ w % 2
def plc (s w : Nat) : Int32 := if s / 2 ^ w % 2 = 1 then nI (cb s w) else -1
theorem on_cb : ∀ s, s < 4096 → onF s s = cb s 12 := by decide +kernel
theorem cb_pos : ∀ s, s < 4096 → 1 ≤ s → 0 < cb s 12 := by decide +kernel
theorem cb_le (s : Nat) : ∀ w, cb s w ≤ w
  | 0 => Nat.le_refl _
  | w + 1 => by
    have := cb_le s w
    unfold cb
    omega
theorem cb_mono (s : Nat) {a c : Nat} (h : a ≤ c) : cb s a ≤ cb s c := by
  induction c with
  | zero => rw [show a = 0 from by omega]; exact Nat.le_refl _
  | succ c ih =>
    rcases Nat.lt_or_ge c a with e | e
    · rw [show a = c + 1 from by omega]; exact Nat.le_refl _
    · have := ih e
      rw [cb]
      omega
theorem cb_lt (s : Nat) {a c : Nat} (h : a < c) (hb : s / 2 ^ a % 2 = 1) : cb s a < cb s c := by
  have := cb_mono s (a := a + 1) (c := c) h
  rw [cb, hb] at this
  omega
theorem sh_sm : ∀ w, w < 12 → ((nI w &&& 31).toBitVec.smod 32).toNat = w := by decide
theorem bitN {s w : Nat} (hs : s < 4096) (hw : w < 12) : (nI s >>> (nI w &&& 31)) &&& 1 = nI (s / 2 ^ w % 2) := by
  rw [pk_shrN (by omega) (nI w &&& 31) w (sh_sm w hw)]
  exact pk_andN (Nat.lt_of_le_of_lt (Nat.div_le_self _ _) (by omega)) 1 rfl
def plF (S : SS) (s k : Nat) : Nat → Int32 := fun j => if j < k then plc s j else S 21 j
theorem plF_0 (S : SS) (s : Nat) : plF S s 0 = S 21 := by funext j; simp [plF]
theorem plF_s {S : SS} {s c : Nat} {x : Int32} (h : x = plc s c) : upd (plF S s c) c x = plF S s (c + 1) := by
  funext j
  by_cases e : j = c
  · subst e; rw [pk_us]; simp [plF, h]
  · rw [pk_un e]; unfold plF; simp only [show (j < c + 1) ↔ (j < c) from by omega]
/-- the rows of ways, as far as they are made -/
def tabF (S : SS) : Nat → Nat → Int32
  | 0 => S 20
  | l + 1 => fun j => if 64 * l ≤ j ∧ j < 64 * l + 64 then wfM (setF S 20 (tabF S l)) (nI (j - 64 * l)) l else tabF S l j
def tabP (S : SS) (l k : Nat) : Nat → Int32 := fun j => if 64 * l ≤ j ∧ j < 64 * l + k then wfM (setF S 20 (tabF S l)) (nI (j - 64 * l)) l else tabF S l j
theorem tabP_0 (S : SS) (l : Nat) : tabP S l 0 = tabF S l := by
  funext j
  unfold tabP
  rw [if_neg (by omega)]
theorem tabP_64 (S : SS) (l : Nat) : tabP S l 64 = tabF S (l + 1) := rfl
theorem tabP_s {S : SS} {l c : Nat} {x : Int32} (h : x = wfM (setF S 20 (tabF S l)) (nI c) l) : upd (tabP S l c) (64 * l + c) x = tabP S l (c + 1) := by
  funext j
  by_cases e : j = 64 * l + c
  · subst e
    rw [pk_us]
    unfold tabP
    rw [if_pos (show 64 * l ≤ 64 * l + c ∧ 64 * l + c < 64 * l + (c + 1) by omega), h, show 64 * l + c - 64 * l = c from by omega]
  · rw [pk_un e]
    unfold tabP
    by_cases e2 : 64 * l ≤ j ∧ j < 64 * l + c
    · rw [if_pos e2, if_pos (show 64 * l ≤ j ∧ j < 64 * l + (c + 1) by omega)]
    · rw [if_neg e2, if_neg (show ¬ (64 * l ≤ j ∧ j < 64 * l + (c + 1)) by omega)]
theorem wb_congr {S : SS} {f g : Nat → Int32} {l c : Nat} (hl : l < 64) (hc : c < 64) (hS : SoOk S) (h : ∀ j, j < 64 * l → f j = g j) (fr : Int32) : wbM (setF S 20 f) fr l c = wbM (setF S 20 g) fr l c := by
  unfold wbM
  rw [show plM (setF S 20 f) c = plM S c from rfl, show plM (setF S 20 g) c = plM S c from rfl, show setF S 20 f 1 c = S 1 c from rfl, show setF S 20 g 1 c = S 1 c from rfl]
  by_cases h1 : S 1 c = 0
  · rw [if_pos h1, if_pos h1]
  · rw [if_neg h1, if_neg h1]
    by_cases h2 : plM S c = -1
    · rw [if_pos h2, if_pos h2]
    · rw [if_neg h2, if_neg h2]
      by_cases h3 : (nI l >>> (plM S c &&& 31)) &&& 1 = 0
      · rw [if_pos h3, if_pos h3]
      · rw [if_neg h3, if_neg h3]
        obtain ⟨k, hk, ek⟩ := hS.1 c hc (decide_eq_true (lt_nle.mpr (fun q => h1 (Int32.le_antisymm q (hS.2.1 c hc)))))
        have hpl : plM S c = S 21 k := by unfold plM; rw [ek, gN_nI (by omega)]
        rw [hpl] at h2 h3
        obtain ⟨j, hj, ej⟩ := (hS.2.2 k hk).resolve_left h2
        rw [ej] at h3
        have hb := (bit_clr l hl j hj h3).2
        rw [hpl, ej, gN_nI (by omega), show setF S 20 f 20 = f from rfl, show setF S 20 g 20 = g from rfl, h _ (by have : 0 < 2 ^ j := Nat.two_pow_pos j; omega)]
theorem wf_congr {S : SS} {f g : Nat → Int32} {l : Nat} (hl : l < 64) (hS : SoOk S) (h : ∀ j, j < 64 * l → f j = g j) (fr : Int32) : wfM (setF S 20 f) fr l = wfM (setF S 20 g) fr l := by
  unfold wfM
  split
  · rfl
  · exact foldN_congr (fun _ _ => rfl) (fun c hc _ y => by rw [wb_congr hl hc hS h fr])
def fstC (p : Nat → Bool) : Nat → Nat → Nat
  | 0, c => c
  | n + 1, c => if p c = true then c else fstC p n (c + 1)
theorem fold_min {g : Nat → Int32} {x : Int32} : ∀ {n : Nat}, foldN (fun _ => true) (fun c y => if g c < y then g c else y) x n = x ∨ ∃ c, c < n ∧ g c = foldN (fun _ => true) (fun c y => if g c < y then g c else y) x n
  | 0 => Or.inl rfl
  | n + 1 => by
    rw [foldN_t rfl]
    by_cases h : g n < foldN (fun _ => true) (fun c y => if g c < y then g c else y) x n
    · rw [if_pos h]
      exact Or.inr ⟨n, by omega, rfl⟩
    · rw [if_neg h]
      rcases fold_min (g := g) (x := x) (n := n) with e | ⟨c, hc, e⟩
      · exact Or.inl e
      · exact Or.inr ⟨c, by omega, e⟩
def soS (S : SS) (s : Nat) : SS := setF S 21 (plF S s 12)
def soT (S : SS) (s : Nat) : SS := setF (soS S s) 20 (tabF (soS S s) (2 ^ cb s 12))
def soC (S : SS) (q u w : Int32) : Prop := psB S q = true ∧ 1 ≤ u ∧ ¬ (1 : Int32) <<< (S 0 8 &&& 31) ≤ u ∧ nI (onF (gN u) (gN u)) ≤ 6 ∧ isInB w 0 1 = true
def soL (S : SS) (q u : Int32) : Int32 := wfM (soT S (gN u)) (S 1 (256 + gN q)) (2 ^ cb (gN u) 12 - 1)
def soB (S : SS) (q u : Int32) (c : Nat) : Bool := decide (wbM (soT S (gN u)) (S 1 (256 + gN q)) (2 ^ cb (gN u) 12 - 1) c = soL S q u)
def soV (S : SS) (q u w : Int32) : Int32 := if 1000000 ≤ soL S q u then -1 else if w = 0 then soL S q u else nI (fstC (soB S q u) 64 0)
theorem shl_w : ∀ k, k < 13 → (1 : Int32) <<< (nI k &&& 31) = nI (2 ^ k) := by decide
theorem k_soup : CtS mX3_soup 5 (mW3 (fun (a : Unit) q u w S => PnM S ∧ wdM S ∧ (∀ c, c < 64 → 0 ≤ S 1 c) ∧ ∀ p, p < gN (S 0 12) → ∃ c, c < 64 ∧ S 1 (256 + p) = nI c) (fun (a : Unit) q u w S v S' => ((soC S q u w ∧ v = soV (tl S) q u w) ∨ (¬ soC S q u w ∧ v = -1)) ∧ Chg [20, 21] (tl S) S')) := by
  intro l G d hd as h z Q hs
  match as, hs with
  | [.ref b, .int q, .int u, .int w], hs =>
    obtain ⟨S, a, hm, hp, hs⟩ := hs
    replace hp : PnM S ∧ wdM S ∧ (∀ c, c < 64 → 0 ≤ S 1 c) ∧ ∀ p, p < gN (S 0 12) → ∃ c, c < 64 ∧ S 1 (256 + p) = nI c := hp
    replace hs : ∀ v S' h', (((soC S q u w ∧ v = soV (tl S) q u w) ∨ (¬ soC S q u w ∧ v = -1)) ∧ Chg [20, 21] (tl S) S') → IsMod G b S' h' → FrM b h h' → Q (some (.int v)) h' := hs
    have hf : FrM b h h := FrM.rf
    refine Ct.of rfl (Nat.le_of_ble_eq_true rfl) rfl ?_
    refine X.w wkX3_soup (fcons (ceV k_wayBy mmR3 ckX3_288 rfl mrR3 (by omega) rfl) (fcons (ceV k_wayFrom mmR2 ckX3_294 rfl mrR2 (by omega) rfl) (fcons (ceV k_isIn mmR3 ckX3_107 rfl mrR3 (by omega) rfl) (fcons (ceV k_ones mmR1 ckX3_291 rfl mrR1 (by omega) rfl) (fcons (ceV k_isPerson mmR1 ckX3_133 rfl mrR1 (by omega) rfl) fnil))))) [5] 5 rfl ?_
    refine pF0 (okV_W rfl) (by first | assumption | exact hm.obj | exact hm.arr _ rfl) (Nat.le_of_ble_eq_true rfl) (by first | exact hm.N | exact hm.No _) ?_
    intro h2 e2
    have hm := hm.u0 e2 rfl; have hf := hf.u0 e2
    replace hm : IsMod G b (tl S) h2 := hm
    replace hp : PnM (tl S) ∧ wdM (tl S) ∧ (∀ c, c < 64 → 0 ≤ tl S 1 c) ∧ ∀ p, p < gN (tl S 0 12) → ∃ c, c < 64 ∧ tl S 1 (256 + p) = nI c := hp
    replace hs : ∀ v S' h', (((soC (tl S) q u w ∧ v = soV (tl S) q u w) ∨ (¬ soC (tl S) q u w ∧ v = -1)) ∧ Chg [20, 21] (tl S) S') → IsMod G b S' h' → FrM b h h' → Q (some (.int v)) h' := hs
    generalize tl S = S at hm hs hp
    have hp3 := hp.1.2.1.2
    refine X.w wkX3_soup (fcons (ceV k_wayBy mmR3 ckX3_288 rfl mrR3 (by omega) rfl) (fcons (ceV k_wayFrom mmR2 ckX3_294 rfl mrR2 (by omega) rfl) (fcons (ceV k_isIn mmR3 ckX3_107 rfl mrR3 (by omega) rfl) (fcons (ceV k_ones mmR1 ckX3_291 rfl mrR1 (by omega) rfl) (fcons (ceV k_isPerson mmR1 ckX3_133 rfl mrR1 (by omega) rfl) fnil))))) [50] 27 rfl ?_
    refine Exists.intro _ (Exists.intro () (And.intro hm (And.intro trivial ?_)))
    intro v7 e7
    subst e7
    refine And.intro (fun b10 => ?_) (fun b10 => ?_)
    · simp only [cP, cN, bI_0, Bool.not_eq_false, lt_nle, Decidable.not_not] at b10
      exact And.intro (hs _ _ _ ⟨Or.inr ⟨fun q => absurd (b10.symm.trans q.1) (by decide), rfl⟩, Chg.rf⟩ hm hf) rfl
    · simp only [cP, cN, bI_0, Bool.not_eq_false, lt_nle, Decidable.not_not] at b10
      obtain ⟨p, hp6, rfl⟩ := psB_lt hp.1.1 (by decide) b10
      have hp7 := hp.1.1.2
      have hgq : gN (nI p) = p := gN_nI (by omega)
      refine And.intro (fun b15 => ?_) (fun b15 => ?_)
      · simp only [cP, cN, bI_0, Bool.not_eq_false, lt_nle, Decidable.not_not] at b15
        exact And.intro (hs _ _ _ ⟨Or.inr ⟨fun q => b15 q.2.1, rfl⟩, Chg.rf⟩ hm hf) rfl
      · simp only [cP, cN, bI_0, Bool.not_eq_false, lt_nle, Decidable.not_not] at b15
        refine gF (by first | assumption | exact hm.obj | exact hm.arr _ rfl) ?_
        refine And.intro (fun b25 => ?_) (fun b25 => ?_)
        · simp only [cP, cN, bI_0, Bool.not_eq_false, lt_nle, Decidable.not_not] at b25
          exact And.intro (hs _ _ _ ⟨Or.inr ⟨fun q => q.2.2.1 b25, rfl⟩, Chg.rf⟩ hm hf) rfl
        · simp only [cP, cN, bI_0, Bool.not_eq_false, lt_nle, Decidable.not_not] at b25
          have hu : Bd 4096 u := by
            have h9 : u ≤ nI 4096 := by
              have h8 := Int32.le_of_lt (lt_nle.mpr b25)
              rw [hp.1.2.1.1, shl_w _ (by omega)] at h8
              exact Int32.le_trans h8 (nI_le (Nat.pow_le_pow_right (by decide) hp3 : 2 ^ gN (S 0 8) ≤ 2 ^ 12) (by decide))
            exact Bd.of (by decide) (Int32.le_trans (by decide) b15) h9
          have hu3 : gN u < 4096 := by
            have h8 := b25
            rw [hp.1.2.1.1, shl_w _ (by omega), hu.1, nI_leI (by have : 2 ^ gN (S 0 8) ≤ 2 ^ 12 := Nat.pow_le_pow_right (by decide) hp3; omega) (by have := hu.2; omega)] at h8
            have : 2 ^ gN (S 0 8) ≤ 2 ^ 12 := Nat.pow_le_pow_right (by decide) hp3
            omega
          refine Exists.intro _ (Exists.intro (gN u) (And.intro hm (And.intro ⟨hu.1, hu3⟩ ?_)))
          intro v30 e30
          (try dsimp only at e30)
          refine And.intro (fun b35 => ?_) (fun b35 => ?_)
          · simp only [cP, cN, bI_0, Bool.not_eq_false, lt_nle, Decidable.not_not] at b35
            exact And.intro (hs _ _ _ ⟨Or.inr ⟨fun q => b35 (by rw [e30]; exact q.2.2.2.1), rfl⟩, Chg.rf⟩ hm hf) rfl
          · simp only [cP, cN, bI_0, Bool.not_eq_false, lt_nle, Decidable.not_not] at b35
            refine Exists.intro _ (Exists.intro () (And.intro hm (And.intro trivial ?_)))
            intro v42 e42
            subst e42
            refine And.intro (fun b45 => ?_) (fun b45 => ?_)
            · simp only [cP, cN, bI_0, Bool.not_eq_false, lt_nle, Decidable.not_not] at b45
              have hC : soC S (nI p) u w := ⟨b10, b15, b25, by rw [← e30]; exact b35, b45⟩
              replace hs : ∀ v S' h', v = soV S (nI p) u w → Chg [20, 21] S S' → IsMod G b S' h' → FrM b h h' → Q (some (.int v)) h' := fun v S' h' e1 e2 => hs v S' h' ⟨Or.inl ⟨hC, e1⟩, e2⟩
              have hN6 : cb (gN u) 12 ≤ 6 := by
                have h8 := b35
                rw [e30, on_cb _ hu3] at h8
                exact (nI_leI (by have := cb_le (gN u) 12; omega) (by decide)).mp h8
              obtain ⟨s, hs0⟩ : ∃ s, s = gN u := ⟨_, rfl⟩
              have hu1 := hu.1
              rw [← hs0] at hN6 hu3 hu1
              subst hu1
              clear b25 b35 e30 hu
              have hsg : gN (nI s) = s := gN_nI (by omega)
              clear hs0
              have hso : SoOk (soS S s) := by
                refine ⟨hp.2.1, hp.2.2.1, fun x hx => ?_⟩
                show plF S s 12 x = -1 ∨ ∃ k, k < 6 ∧ plF S s 12 x = nI k
                unfold plF
                rw [if_pos hx]
                unfold plc
                by_cases hb : s / 2 ^ x % 2 = 1
                · rw [if_pos hb]
                  exact Or.inr ⟨cb s x, by have := cb_lt s hx hb; omega, rfl⟩
                · rw [if_neg hb]
                  exact Or.inl rfl
              obtain ⟨N, hN⟩ : ∃ N, N = cb s 12 := ⟨_, rfl⟩
              have hN7 : N < 13 := by omega
              have hPN : 2 ^ N ≤ 64 := Nat.pow_le_pow_right (n := 2) (by decide) (by omega : N ≤ 6)
              have hP0 : 0 < 2 ^ N := Nat.two_pow_pos N
              have hNpos : 0 < N := by
                rw [hN]
                exact cb_pos s hu3 ((nI_leI (a := 1) (by decide) (by omega)).mp b15)
              have hz : ¬ 2 ^ N - 1 = 0 := by
                have h9 : 2 ^ 1 ≤ 2 ^ N := Nat.pow_le_pow_right (by decide) hNpos
                omega
              have hsoF : ∀ f, SoOk (setF (soS S s) 20 f) := fun f => ⟨hso.1, hso.2.1, hso.2.2⟩
              obtain ⟨c0, hc0, ec0⟩ := hp.2.2.2 p hp6
              have hT : soT S (gN (nI s)) = setF (soS S s) 20 (tabF (soS S s) (2 ^ N)) := by unfold soT; rw [hsg, ← hN]
              have hL : soL S (nI p) (nI s) = wfM (setF (soS S s) 20 (tabF (soS S s) (2 ^ N))) (nI c0) (2 ^ N - 1) := by unfold soL; rw [hT, hsg, ← hN, hgq, ec0]
              have hB : ∀ c, soB S (nI p) (nI s) c = decide (wbM (setF (soS S s) 20 (tabF (soS S s) (2 ^ N))) (nI c0) (2 ^ N - 1) c = soL S (nI p) (nI s)) := by intro c; unfold soB; rw [hT, hsg, ← hN, hgq, ec0]
              have hChg : ∀ f, Chg [20, 21] S (setF (soS S s) 20 f) := fun f => ((Chg.rf (S := S)).set rfl).set rfl
              have find : ¬ 1000000 ≤ soL S (nI p) (nI s) → ¬ w = 0 → ∀ (x4 : Int32) (h1 : AH), IsMod G b (setF (soS S s) 20 (tabF (soS S s) (2 ^ N))) h1 → FrM b h h1 → ∀ (n c : Nat) (i : Int32), c + n = 64 → i = nI c → fstC (soB S (nI p) (nI s)) n c = fstC (soB S (nI p) (nI s)) 64 0 → (∃ e, c ≤ e ∧ e < 64 ∧ soB S (nI p) (nI s) e = true) → X l G mX3_soup (rmK d 0 0) (TGm G (fun v h' z' => Q v h' ∧ z' = z) 0 0) 0 0 208 [(0, .ref b), (1, .int (nI p)), (2, .int (nI s)), (3, .int w), (4, .int x4), (5, .int (nI (2 ^ N - 1))), (6, .int (nI c0)), (7, .int (soL S (nI p) (nI s))), (8, .int i)] [] h1 z := by
                intro hfar hw0 x4 h1 hm hf n
                induction n with
                | zero =>
                  intro c i hc hi he ⟨e, h1, h2, h3⟩
                  omega
                | succ n ih =>
                  intro c i hc hi he ⟨e, h1, h2, h3⟩
                  subst hi
                  have hc2 : c < 64 := by omega
                  refine X.w wkX3_soup (fcons (ceV k_wayBy mmR3 ckX3_288 rfl mrR3 (by omega) rfl) (fcons (ceV k_wayFrom mmR2 ckX3_294 rfl mrR2 (by omega) rfl) (fcons (ceV k_isIn mmR3 ckX3_107 rfl mrR3 (by omega) rfl) (fcons (ceV k_ones mmR1 ckX3_291 rfl mrR1 (by omega) rfl) (fcons (ceV k_isPerson mmR1 ckX3_133 rfl mrR1 (by omega) rfl) fnil))))) [208] 14 rfl ?_
                  refine Exists.intro _ (Exists.intro (c, 2 ^ N - 1) (And.intro hm (And.intro ⟨rfl, hc2, rfl, by show 2 ^ N - 1 < 64; omega, hsoF _⟩ ?_)))
                  intro v215 e215
                  (try dsimp only at e215)
                  refine And.intro (fun b220 => ?_) (fun b220 => ?_)
                  · simp only [cP, cN, bI_0, Bool.not_eq_false, lt_nle, Decidable.not_not] at b220
                    have hq : soB S (nI p) (nI s) c = true := by rw [hB, ← e215]; exact decide_eq_true b220
                    rw [fstC, if_pos hq] at he
                    exact And.intro (hs _ _ _ (by unfold soV; rw [if_neg hfar, if_neg hw0, ← he]) (hChg _) hm hf) rfl
                  · simp only [cP, cN, bI_0, Bool.not_eq_false, lt_nle, Decidable.not_not] at b220
                    have hq : soB S (nI p) (nI s) c = false := by rw [hB, ← e215]; exact decide_eq_false b220
                    refine ih (c + 1) _ (by omega) (nI_1 c) ?_ ⟨e, ?_, h2, h3⟩
                    · rw [← he, fstC, if_neg (by rw [hq]; decide)]
                    · rcases Nat.lt_or_ge c e with q | q
                      · exact q
                      · rw [show e = c from by omega, hq] at h3
                        exact nomatch h3
              have j158 : ∀ (x5 : Int32) (h1 : AH), IsMod G b (setF (soS S s) 20 (tabF (soS S s) (2 ^ N))) h1 → FrM b h h1 → ∀ J : LL, X l G mX3_soup (rmK d 0 0) (TGm G (fun v h' z' => Q v h' ∧ z' = z) 0 0) 0 0 158 ([(0, .ref b), (1, .int (nI p)), (2, .int (nI s)), (3, .int w), (4, .int (nI N)), (5, .int x5)] ++ J) [] h1 z := by
                intro x5 h1 hm hf J
                refine X.cut _ J rfl ?_
                have e5 : (1 : Int32) <<< (nI N &&& 31) - 1 = nI (2 ^ N - 1) := by
                  rw [shl_w N hN7, show (1 : Int32) = nI 1 from rfl, pk_sub hP0]
                refine X.w wkX3_soup (fcons (ceV k_wayBy mmR3 ckX3_288 rfl mrR3 (by omega) rfl) (fcons (ceV k_wayFrom mmR2 ckX3_294 rfl mrR2 (by omega) rfl) (fcons (ceV k_isIn mmR3 ckX3_107 rfl mrR3 (by omega) rfl) (fcons (ceV k_ones mmR1 ckX3_291 rfl mrR1 (by omega) rfl) (fcons (ceV k_isPerson mmR1 ckX3_133 rfl mrR1 (by omega) rfl) fnil))))) [208] 27 rfl ?_
                refine gF (by first | assumption | exact hm.obj | exact hm.arr _ rfl) ?_
                refine gA (by first | assumption | exact hm.obj | exact hm.arr _ rfl) (ixa (a := 256) rfl (by omega) (by decide)) ?_
                refine Exists.intro _ (Exists.intro (2 ^ N - 1) (And.intro hm (And.intro ⟨e5, by omega, hsoF _⟩ ?_)))
                intro v183 e183
                (try dsimp only at e183)
                replace e183 : v183 = soL S (nI p) (nI s) := by
                  rw [hL, e183]
                  show wfM _ (S 1 (256 + p)) _ = _
                  rw [ec0]
                subst e183
                refine And.intro (fun b193 => ?_) (fun b193 => ?_)
                · simp only [cP, cN, bI_0, Bool.not_eq_false, lt_nle, Decidable.not_not] at b193
                  refine And.intro (fun b199 => ?_) (fun b199 => ?_)
                  · simp only [cP, cN, bI_0, Bool.not_eq_false, lt_nle, Decidable.not_not] at b199
                    rw [e5, show setF (soS S s) 20 (tabF (soS S s) (2 ^ N)) 1 (256 + p) = nI c0 from ec0]
                    refine find b193 b199 _ _ hm hf 64 0 _ rfl rfl rfl ?_
                    have hL2 := hL
                    unfold wfM at hL2
                    rw [if_neg hz] at hL2
                    rcases fold_min (g := wbM (setF (soS S s) 20 (tabF (soS S s) (2 ^ N))) (nI c0) (2 ^ N - 1)) (x := 1000000) (n := 64) with e | ⟨c, hc, e⟩
                    · rw [e] at hL2
                      exact absurd (by rw [hL2]; exact Int32.le_refl _) b193
                    · exact ⟨c, by omega, hc, by rw [hB, hL2]; exact decide_eq_true e⟩
                  · simp only [cP, cN, bI_0, Bool.not_eq_false, lt_nle, Decidable.not_not] at b199
                    exact And.intro (hs _ _ _ (by unfold soV; rw [if_neg b193, if_pos b199]) (hChg _) hm hf) rfl
                · simp only [cP, cN, bI_0, Bool.not_eq_false, lt_nle, Decidable.not_not] at b193
                  exact And.intro (hs _ _ _ (by unfold soV; rw [if_pos b193]) (hChg _) hm hf) rfl
              have row : ∀ (l1 : Nat), l1 < 2 ^ N → (∀ (i : Int32) (h1 : AH), i = nI (l1 + 1) → IsMod G b (setF (soS S s) 20 (tabF (soS S s) (l1 + 1))) h1 → FrM b h h1 → ∀ J : LL, X l G mX3_soup (rmK d 0 0) (TGm G (fun v h' z' => Q v h' ∧ z' = z) 0 0) 0 0 106 ([(0, .ref b), (1, .int (nI p)), (2, .int (nI s)), (3, .int w), (4, .int (nI N)), (5, .int i)] ++ J) [] h1 z) → ∀ (n c : Nat) (i : Int32) (h1 : AH), c + n = 64 → i = nI c → IsMod G b (setF (soS S s) 20 (tabP (soS S s) l1 c)) h1 → FrM b h h1 → X l G mX3_soup (rmK d 0 0) (TGm G (fun v h' z' => Q v h' ∧ z' = z) 0 0) 0 0 118 [(0, .ref b), (1, .int (nI p)), (2, .int (nI s)), (3, .int w), (4, .int (nI N)), (5, .int (nI l1)), (6, .int i)] [] h1 z := by
                intro l1 hl kk n
                induction n using Nat.strongRecOn with
                | _ n ih =>
                intro c i h1 hc hi hm hf
                subst hi
                refine X.w wkX3_soup (fcons (ceV k_wayBy mmR3 ckX3_288 rfl mrR3 (by omega) rfl) (fcons (ceV k_wayFrom mmR2 ckX3_294 rfl mrR2 (by omega) rfl) (fcons (ceV k_isIn mmR3 ckX3_107 rfl mrR3 (by omega) rfl) (fcons (ceV k_ones mmR1 ckX3_291 rfl mrR1 (by omega) rfl) (fcons (ceV k_isPerson mmR1 ckX3_133 rfl mrR1 (by omega) rfl) fnil))))) [118, 152] 19 rfl ?_
                refine And.intro (fun b122 => ?_) (fun b122 => ?_)
                · simp only [cP, cN, bI_0, Bool.not_eq_false, lt_nle, Decidable.not_not] at b122
                  have hc2 : 64 ≤ c := (le64 (by omega) (by omega)).mp b122
                  obtain rfl : c = 64 := by omega
                  rw [tabP_64] at hm
                  refine X.w wkX3_soup (fcons (ceV k_wayBy mmR3 ckX3_288 rfl mrR3 (by omega) rfl) (fcons (ceV k_wayFrom mmR2 ckX3_294 rfl mrR2 (by omega) rfl) (fcons (ceV k_isIn mmR3 ckX3_107 rfl mrR3 (by omega) rfl) (fcons (ceV k_ones mmR1 ckX3_291 rfl mrR1 (by omega) rfl) (fcons (ceV k_isPerson mmR1 ckX3_133 rfl mrR1 (by omega) rfl) fnil))))) [106] 4 rfl ?_
                  exact kk _ _ (nI_1 l1) hm hf [(6, .int (nI 64))]
                · simp only [cP, cN, bI_0, Bool.not_eq_false, lt_nle, Decidable.not_not] at b122
                  have hc2 : c < 64 := nle64 b122 (by omega) (by omega)
                  refine gF (by first | assumption | exact hm.obj | exact hm.arr _ rfl) ?_
                  refine Exists.intro _ (Exists.intro l1 (And.intro hm (And.intro ⟨rfl, by omega, hsoF _⟩ ?_)))
                  intro v142 e142
                  (try dsimp only at e142)
                  refine sA (by first | assumption | exact hm.obj | exact hm.arr _ rfl) (ixE (j := 64 * l1 + c) (by rw [show (64 : Int32) = nI 64 from rfl, pk_mul, nI_add]) (by omega) (by decide)) (by first | exact hm.N | exact hm.No _) ?_
                  intro h145 e145
                  have hm := hm.uA e145 rfl; have hf := hf.uA e145 (by decide)
                  rw [up2_set] at hm
                  refine ih (n - 1) (by omega) (c + 1) _ _ (by omega) (nI_1 c) ?_ hf
                  rw [← tabP_s (x := v142) (by rw [e142]; exact wf_congr (by omega) hso (fun j hj => by unfold tabP; rw [if_neg (by omega)]) _)]
                  exact hm
              have tab : ∀ (n l1 : Nat) (i : Int32) (h1 : AH), l1 + n = 2 ^ N → i = nI l1 → IsMod G b (setF (soS S s) 20 (tabF (soS S s) l1)) h1 → FrM b h h1 → ∀ J : LL, X l G mX3_soup (rmK d 0 0) (TGm G (fun v h' z' => Q v h' ∧ z' = z) 0 0) 0 0 106 ([(0, .ref b), (1, .int (nI p)), (2, .int (nI s)), (3, .int w), (4, .int (nI N)), (5, .int i)] ++ J) [] h1 z := by
                intro n
                induction n with
                | zero =>
                  intro l1 i h1 hl hi hm hf J
                  subst hi
                  obtain rfl : l1 = 2 ^ N := by omega
                  refine X.cut _ J rfl ?_
                  refine X.w wkX3_soup (fcons (ceV k_wayBy mmR3 ckX3_288 rfl mrR3 (by omega) rfl) (fcons (ceV k_wayFrom mmR2 ckX3_294 rfl mrR2 (by omega) rfl) (fcons (ceV k_isIn mmR3 ckX3_107 rfl mrR3 (by omega) rfl) (fcons (ceV k_ones mmR1 ckX3_291 rfl mrR1 (by omega) rfl) (fcons (ceV k_isPerson mmR1 ckX3_133 rfl mrR1 (by omega) rfl) fnil))))) [158] 6 rfl ?_
                  refine And.intro (fun b112 => ?_) (fun b112 => ?_)
                  · simp only [cP, cN, bI_0, Bool.not_eq_false, lt_nle, Decidable.not_not] at b112
                    exact j158 _ _ hm hf []
                  · simp only [cP, cN, bI_0, Bool.not_eq_false, lt_nle, Decidable.not_not] at b112
                    exact absurd (by rw [shl_w N hN7]; exact Int32.le_refl _) b112
                | succ n ih =>
                  intro l1 i h1 hl hi hm hf J
                  subst hi
                  refine X.cut _ J rfl ?_
                  refine X.w wkX3_soup (fcons (ceV k_wayBy mmR3 ckX3_288 rfl mrR3 (by omega) rfl) (fcons (ceV k_wayFrom mmR2 ckX3_294 rfl mrR2 (by omega) rfl) (fcons (ceV k_isIn mmR3 ckX3_107 rfl mrR3 (by omega) rfl) (fcons (ceV k_ones mmR1 ckX3_291 rfl mrR1 (by omega) rfl) (fcons (ceV k_isPerson mmR1 ckX3_133 rfl mrR1 (by omega) rfl) fnil))))) [118] 9 rfl ?_
                  refine And.intro (fun b112 => ?_) (fun b112 => ?_)
                  · simp only [cP, cN, bI_0, Bool.not_eq_false, lt_nle, Decidable.not_not] at b112
                    exact absurd ((nI_leI (a := 2 ^ N) (b := l1) (by omega) (by omega)).mp (by rw [shl_w N hN7] at b112; exact b112)) (by omega)
                  · simp only [cP, cN, bI_0, Bool.not_eq_false, lt_nle, Decidable.not_not] at b112
                    exact row l1 (by omega) (fun i h1 hi hm hf J => ih (l1 + 1) i h1 (by omega) hi hm hf J) 64 0 _ _ rfl rfl (by rw [tabP_0]; exact hm) hf
              have plac : ∀ (n k : Nat) (i x : Int32) (h1 : AH), k + n = 12 → i = nI k → x = nI (cb s k) → IsMod G b (setF S 21 (plF S s k)) h1 → FrM b h h1 → X l G mX3_soup (rmK d 0 0) (TGm G (fun v h' z' => Q v h' ∧ z' = z) 0 0) 0 0 56 [(0, .ref b), (1, .int (nI p)), (2, .int (nI s)), (3, .int w), (4, .int x), (5, .int i)] [] h1 z := by
                intro n
                induction n using Nat.strongRecOn with
                | _ n ih =>
                intro k i x h1 hk hi hx hm hf
                subst hi
                subst hx
                refine X.w wkX3_soup (fcons (ceV k_wayBy mmR3 ckX3_288 rfl mrR3 (by omega) rfl) (fcons (ceV k_wayFrom mmR2 ckX3_294 rfl mrR2 (by omega) rfl) (fcons (ceV k_isIn mmR3 ckX3_107 rfl mrR3 (by omega) rfl) (fcons (ceV k_ones mmR1 ckX3_291 rfl mrR1 (by omega) rfl) (fcons (ceV k_isPerson mmR1 ckX3_133 rfl mrR1 (by omega) rfl) fnil))))) [56, 106] 28 rfl ?_
                refine And.intro (fun b60 => ?_) (fun b60 => ?_)
                · simp only [cP, cN, bI_0, Bool.not_eq_false, lt_nle, Decidable.not_not] at b60
                  have hc2 : 12 ≤ k := (le64 (by omega) (by omega)).mp b60
                  obtain rfl : k = 12 := by omega
                  rw [← hN]
                  exact tab (2 ^ N) 0 _ _ (by omega) rfl (by show IsMod G b (setF (soS S s) 20 (soS S s 20)) _; rw [setF_self]; exact hm) hf []
                · simp only [cP, cN, bI_0, Bool.not_eq_false, lt_nle, Decidable.not_not] at b60
                  have hc2 : k < 12 := nle64 b60 (by omega) (by omega)
                  have hbit := bitN hu3 hc2
                  have hb01 : s / 2 ^ k % 2 < 2 := Nat.mod_lt _ (by decide)
                  refine gF (by first | assumption | exact hm.obj | exact hm.arr _ rfl) ?_
                  refine And.intro (fun b76 => ?_) (fun b76 => ?_)
                  · simp only [cP, cN, bI_0, Bool.not_eq_false, lt_nle, Decidable.not_not] at b76
                    refine sA (by first | assumption | exact hm.obj | exact hm.arr _ rfl) (by first | exact ixN (by omega) (by decide) | exact ixz (by omega) (by decide) | exact ixa (a := 64) rfl (by omega) (by decide) | exact ixa (a := 128) rfl (by omega) (by decide) | exact ixa (a := 192) rfl (by omega) (by decide) | exact ixa (a := 256) rfl (by omega) (by decide) | exact ixa (a := 262) rfl (by omega) (by decide) | exact ixa (a := 268) rfl (by omega) (by decide) | exact ixa (a := 274) rfl (by omega) (by decide) | exact ixa (a := 348) rfl (by omega) (by decide) | exact ixa (a := 400) rfl (by omega) (by decide)) (by first | exact hm.N | exact hm.No _) ?_
                    intro h85 e85
                    have hm := hm.uA e85 rfl; have hf := hf.uA e85 (by decide)
                    rw [up2_set] at hm
                    refine ih (n - 1) (by omega) (k + 1) _ _ _ (by omega) (nI_1 k) ?_ ?_ hf
                    · rw [hbit, nI_add, cb]
                    · rw [← plF_s (x := -1) (by
                        unfold plc
                        rw [if_neg (fun q => b76 (by rw [hbit, q]; rfl))])]
                      exact hm
                  · simp only [cP, cN, bI_0, Bool.not_eq_false, lt_nle, Decidable.not_not] at b76
                    refine sA (by first | assumption | exact hm.obj | exact hm.arr _ rfl) (by first | exact ixN (by omega) (by decide) | exact ixz (by omega) (by decide) | exact ixa (a := 64) rfl (by omega) (by decide) | exact ixa (a := 128) rfl (by omega) (by decide) | exact ixa (a := 192) rfl (by omega) (by decide) | exact ixa (a := 256) rfl (by omega) (by decide) | exact ixa (a := 262) rfl (by omega) (by decide) | exact ixa (a := 268) rfl (by omega) (by decide) | exact ixa (a := 274) rfl (by omega) (by decide) | exact ixa (a := 348) rfl (by omega) (by decide) | exact ixa (a := 400) rfl (by omega) (by decide)) (by first | exact hm.N | exact hm.No _) ?_
                    intro h85 e85
                    have hm := hm.uA e85 rfl; have hf := hf.uA e85 (by decide)
                    rw [up2_set] at hm
                    refine ih (n - 1) (by omega) (k + 1) _ _ _ (by omega) (nI_1 k) ?_ ?_ hf
                    · rw [hbit, nI_add, cb]
                    · rw [← plF_s (x := nI (cb s k)) (by
                        unfold plc
                        rw [if_pos ((nI_eq (by omega) (by decide)).mp (hbit ▸ b76))])]
                      exact hm
              refine X.w wkX3_soup (fcons (ceV k_wayBy mmR3 ckX3_288 rfl mrR3 (by omega) rfl) (fcons (ceV k_wayFrom mmR2 ckX3_294 rfl mrR2 (by omega) rfl) (fcons (ceV k_isIn mmR3 ckX3_107 rfl mrR3 (by omega) rfl) (fcons (ceV k_ones mmR1 ckX3_291 rfl mrR1 (by omega) rfl) (fcons (ceV k_isPerson mmR1 ckX3_133 rfl mrR1 (by omega) rfl) fnil))))) [56] 6 rfl ?_
              exact plac 12 0 _ _ _ rfl rfl rfl (by rw [plF_0, setF_self]; exact hm) hf
            · simp only [cP, cN, bI_0, Bool.not_eq_false, lt_nle, Decidable.not_not] at b45
              exact And.intro (hs _ _ _ ⟨Or.inr ⟨fun q => absurd (b45.symm.trans q.2.2.2.2) (by decide), rfl⟩, Chg.rf⟩ hm hf) rfl
