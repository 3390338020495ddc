set_option maxRecDepth 100000
/-! THE CLASS: soup -/
def bcF0 (x : Int32) : Int32 := x - ((x.toUInt32 >>> ((1 : Int32).toUInt32 &&& Int32.toUInt32 31)).toInt32 &&& 1431655765)
def bcF1 (x : Int32) : Int32 := (x &&& 858993459) + ((x.toUInt32 >>> ((2 : Int32).toUInt32 &&& Int32.toUInt32 31)).toInt32 &&& 858993459)
def bcF2 (x : Int32) : Int32 := (x + (x.toUInt32 >>> ((4 : Int32).toUInt32 &&& Int32.toUInt32 31)).toInt32) &&& 252645135
def bcF3 (x : Int32) : Int32 := x + (x.toUInt32 >>> ((8 : Int32).toUInt32 &&& Int32.toUInt32 31)).toInt32
def bcF4 (x : Int32) : Int32 := (x + (x.toUInt32 >>> ((16 : Int32).toUInt32 &&& Int32.toUInt32 31)).toInt32) &&& 63
theorem bc_ok : ∀ s, s < 4096 → bcF4 (bcF3 (bcF2 (bcF1 (bcF0 (nI s))))) = nI (cb s 12) := by decide +kernel
def spBc : GG → CSpec := fun _ as h Q => match as with
  | [.int x] => ∃ a : Nat, x = nI a ∧ a < 4096 ∧ ∀ v, v = nI (cb a 12) → Q (some (.int v)) h
  | _ => False
theorem moBc {G : GG} : Mono (spBc G) := by
  intro as h Q Q' hQ hs
  unfold spBc at hs ⊢
  split at hs
  · obtain ⟨a, h1, h2, h3⟩ := hs
    exact ⟨a, h1, h2, fun v e => hQ _ _ (h3 v e)⟩
  · exact hs.elim
theorem x_bitCount : CtS mJ13_bitCount 1 spBc := by
  intro l G d hd as h z Q hs
  match as, hs with
  | [.int x], hs =>
    obtain ⟨a, rfl, ha, hs⟩ := hs
    refine Ct.of rfl (Nat.le_of_ble_eq_true rfl) rfl ?_
    refine X.w wkJ13_bitCount fnil [] 43 rfl ?_
    exact And.intro (hs _ (bc_ok a ha)) rfl
def XW.rs (W : XW) (R : SS) (sp : Nat → Int32) : XW := (W.1, W.2.1, W.2.2.1, W.2.2.2.1, W.2.2.2.2.1, W.2.2.2.2.2.1, R, sp)
def plX (f : Nat → Int32) (s k : Nat) : Nat → Int32 := fun j => if j < k then plc s j else f j
theorem plX_0 (f : Nat → Int32) (s : Nat) : plX f s 0 = f := by funext j; simp [plX]
theorem plX_s {f : Nat → Int32} {s c : Nat} {x : Int32} (h : x = plc s c) : upd (plX f s c) c x = plX f s (c + 1) := by
  funext j
  by_cases e : j = c
  · subst e; rw [pk_us]; simp [plX, h]
  · rw [pk_un e]; unfold plX; simp only [show (j < c + 1) ↔ (j < c) from by omega]
theorem upd_2 {f : Nat → Int32} {c : Nat} {x y : Int32} : upd (upd f c x) c y = upd f c y := by
  funext j
  by_cases e : j = c
  · subst e; rw [pk_us, pk_us]
  · rw [pk_un e, pk_un e, pk_un e]
theorem x_laysSpices : CtS mX0_laysSpices (1) (xW1 (fun (s : Nat) u W => u = nI s ∧ s < 4096) (fun (s : Nat) u W v W' => v = nI (cb s 12) ∧ W' = W.rs W.R (plX W.sp s 12))) := by
  intro l G d hd as h z Q hs
  match as, hs with
  | [.ref b, .int u], hs =>
    obtain ⟨W, s, hx, hp, hs⟩ := hs
    replace hp : u = nI s ∧ s < 4096 := hp
    replace hs : ∀ v W' h', (v = nI (cb s 12) ∧ W' = W.rs W.R (plX W.sp s 12)) → IsX G b W' h' → FrX b h h' → Q (some (.int v)) h' := hs
    have hf : FrX b h h := FrX.rf
    refine Ct.of rfl (Nat.le_of_ble_eq_true rfl) rfl ?_
    obtain ⟨rfl, hs4⟩ := hp
    have loop : ∀ (n c : Nat) (i : Int32) (v : Int32) (h1 : AH), c + n = 12 → i = nI c → (IsX G b (W.rs W.R (plX W.sp s c)) h1) → (FrX b h h1) → (v = nI (cb s c)) → X l G mX0_laysSpices (rmK d 0 0) (TGm G (fun v h' z' => Q v h' ∧ z' = z) 0 0) 0 0 4 [(0, .ref b), (1, .int (nI s)), (2, .int v), (3, .int i)] [] h1 z := by
      intro  n
      induction n using Nat.strongRecOn with
      | _ n ih =>
      intro c i v h1  hc hi hx hf hv
      subst hi
      refine X.w wkX0_laysSpices fnil [4] 24 rfl ?_
      refine And.intro (fun b7 => ?_) (fun b7 => ?_)
      · simp only [cP, cN, bI_0, Bool.not_eq_false, lt_nle, Decidable.not_not] at b7
        have hc2 : 12 ≤ c := (le64 (by omega) (by omega)).mp b7
        obtain rfl : c = 12 := by omega
        exact And.intro (hs _ _ _ ⟨hv, rfl⟩ hx hf) rfl
      · simp only [cP, cN, bI_0, Bool.not_eq_false, lt_nle, Decidable.not_not] at b7
        have hc2 : c < 12 := nle64 b7 (by omega) (by omega)
        have hbit := bitN hs4 hc2
        have hb01 : s / 2 ^ c % 2 < 2 := Nat.mod_lt _ (by decide)
        refine gF (by first | assumption | exact hx.obj | exact hx.bk | exact hx.rs | exact hx.sp | exact hx.tp | exact hx.w0.obj | exact hx.w0.arr _ rfl) ?_
        refine sA (by first | assumption | exact hx.obj | exact hx.bk | exact hx.rs | exact hx.sp | exact hx.tp | exact hx.w0.obj | exact hx.w0.arr _ rfl) (by first | exact ixN (by omega) (by decide) | exact ixz (by omega) (by decide)) (by first | exact hx.N | exact hx.No _ | exact hx.w0.N | exact hx.w0.No _) ?_
        intro h16 e16
        have hf := hf.u e16 InX.s; have hx := hx.uP e16 rfl
        refine And.intro (fun b22 => ?_) (fun b22 => ?_)
        · simp only [cP, cN, bI_0, Bool.not_eq_false, lt_nle, Decidable.not_not] at b22
          refine gF (by first | assumption | exact hx.obj | exact hx.bk | exact hx.rs | exact hx.sp | exact hx.tp | exact hx.w0.obj | exact hx.w0.arr _ rfl) ?_
          refine sA (by first | assumption | exact hx.obj | exact hx.bk | exact hx.rs | exact hx.sp | exact hx.tp | exact hx.w0.obj | exact hx.w0.arr _ rfl) (by first | exact ixN (by omega) (by decide) | exact ixz (by omega) (by decide)) (by first | exact hx.N | exact hx.No _ | exact hx.w0.N | exact hx.w0.No _) ?_
          intro h34 e34
          have hf := hf.u e34 InX.s; have hx := hx.uP e34 rfl
          have hq : ¬ s / 2 ^ c % 2 = 0 := fun q => b22 (by rw [hbit, q]; rfl)
          have hq1 : s / 2 ^ c % 2 = 1 := by omega
          refine ih (n - 1) (by omega) (c + 1) _ _ _ (by omega) (nI_1 c) ?_ hf ?_
          · rw [← plX_s (x := v) (by unfold plc; rw [if_pos hq1]; exact hv), ← upd_2 (x := -1)]
            exact hx
          · rw [hv, nI_1, cb, hq1]
        · simp only [cP, cN, bI_0, Bool.not_eq_false, lt_nle, Decidable.not_not] at b22
          have hq : s / 2 ^ c % 2 = 0 := (nI_eq (by omega) (by decide)).mp (hbit ▸ b22)
          refine ih (n - 1) (by omega) (c + 1) _ _ _ (by omega) (nI_1 c) ?_ hf ?_
          · rw [← plX_s (x := -1) (by unfold plc; rw [if_neg (by omega)])]
            exact hx
          · rw [hv, cb, hq]; rfl
    refine X.w wkX0_laysSpices fnil [4] 6 rfl ?_
    exact loop 12 0 _ _ _ rfl rfl (by rw [plX_0]; exact hx) hf rfl
def spV (S : SS) (sp : Nat → Int32) (c : Nat) : Int32 := if capB S (nI c) = true then sp (gN (S 2 c)) else -1
theorem x_spiceAt : CtS mX0_spiceAt (4) (xR1 (fun (a : SS × Nat) u W => RelX W a.1 ∧ u = nI a.2 ∧ a.2 < 64) (fun (a : SS × Nat) u W => spV (W.S 0) W.sp a.2)) := by
  intro l G d hd as h z Q hs
  match as, hs with
  | [.ref b, .int u], hs =>
    obtain ⟨W, a, hx, hp, hs⟩ := hs
    replace hp : RelX W a.1 ∧ u = nI a.2 ∧ a.2 < 64 := hp
    replace hs : ∀ r9, r9 = spV (W.S 0) W.sp a.2 → Q (some (.int r9)) h := hs
    have hf : FrX b h h := FrX.rf
    refine Ct.of rfl (Nat.le_of_ble_eq_true rfl) rfl ?_
    obtain ⟨M, c⟩ := a
    dsimp only at hp hs
    obtain ⟨hp, rfl, hc2⟩ := hp
    refine X.w wkX0_spiceAt (fcons (ceV c_hasCap moW1 ckX0_168 rfl rcW1 (by omega) rfl) fnil) [] 16 rfl ?_
    refine gF (by first | assumption | exact hx.obj | exact hx.bk | exact hx.rs | exact hx.sp | exact hx.tp | exact hx.w0.obj | exact hx.w0.arr _ rfl) ?_
    refine Exists.intro _ (Exists.intro _ (And.intro hx.w0 ?_))
    refine And.intro (fun b8 => ?_) (fun b8 => ?_)
    · simp only [cP, cN, bI_0, Bool.not_eq_false, lt_nle, Decidable.not_not] at b8
      exact And.intro (hs _ (by unfold spV; rw [if_neg (by rw [b8]; decide)])) rfl
    · simp only [cP, cN, bI_0, Bool.not_eq_false, lt_nle, Decidable.not_not] at b8
      refine gF (by first | assumption | exact hx.obj | exact hx.bk | exact hx.rs | exact hx.sp | exact hx.tp | exact hx.w0.obj | exact hx.w0.arr _ rfl) ?_
      refine gF (by first | assumption | exact hx.obj | exact hx.bk | exact hx.rs | exact hx.sp | exact hx.tp | exact hx.w0.obj | exact hx.w0.arr _ rfl) ?_
      refine gF (by first | assumption | exact hx.obj | exact hx.bk | exact hx.rs | exact hx.sp | exact hx.tp | exact hx.w0.obj | exact hx.w0.arr _ rfl) ?_
      refine gA (by first | assumption | exact hx.obj | exact hx.bk | exact hx.rs | exact hx.sp | exact hx.tp | exact hx.w0.obj | exact hx.w0.arr _ rfl) (ixN hc2 (by decide)) ?_
      refine gA (by first | assumption | exact hx.obj | exact hx.bk | exact hx.rs | exact hx.sp | exact hx.tp | exact hx.w0.obj | exact hx.w0.arr _ rfl) (hp.wi hc2 b8) ?_
      exact And.intro (hs _ (by unfold spV; rw [if_pos b8])) rfl
def onP (S : SS) (sp : Nat → Int32) (H d : Nat) : Bool := !(decide (spV S sp d = -1)) && decide ((nI H >>> (spV S sp d &&& 31)) &&& 1 = 0)
def onX (W : XW) (fr : Int32) (H : Nat) : Int32 := foldN (onP (W.S 0) W.sp H) (fun d x => minI x (farI fr (nI d) + W.R (H + 2 ^ gN (spV (W.S 0) W.sp d)) d)) 99999 64
theorem or_bit : ∀ H, H < 64 → ∀ k, k < 6 → (nI H >>> (nI k &&& 31)) &&& 1 = 0 → nI H ||| ((1 : Int32) <<< (nI k &&& 31)) = nI (H + 2 ^ k) ∧ H + 2 ^ k < 64 := by decide +kernel
theorem sh_bit : ∀ k, k < 6 → (1 : Int32) <<< (nI k &&& 31) = nI (2 ^ k) ∧ 2 ^ k < 64 := by decide +kernel
/-- words are spices by numbers below 6 -/
def SpOk (sp : Nat → Int32) : Prop := ∀ w, w < 12 → sp w = -1 ∨ ∃ k, k < 6 ∧ sp w = nI k
theorem RelX.spk {W : XW} {M : SS} (r : RelX W M) {sp : Nat → Int32} (h : SpOk sp) {c : Nat} (hc : c < 64) : spV (W.S 0) sp c = -1 ∨ ∃ k, k < 6 ∧ spV (W.S 0) sp c = nI k := by
  unfold spV
  split
  · rename_i q
    exact h _ (by have := (cap_word r.w hc q).1.2; omega)
  · exact Or.inl rfl
theorem x_onwards : CtS mX0_onwards (5) (xR2 (fun (a : SS × Nat) fr w W => RelX W a.1 ∧ w = nI a.2 ∧ a.2 < 64 ∧ SpOk W.sp) (fun (a : SS × Nat) fr w W => onX W fr a.2)) := by
  intro l G d hd as h z Q hs
  match as, hs with
  | [.ref b, .int fr, .int w], hs =>
    obtain ⟨W, a, hx, hp, hs⟩ := hs
    replace hp : RelX W a.1 ∧ w = nI a.2 ∧ a.2 < 64 ∧ SpOk W.sp := hp
    replace hs : ∀ r9, r9 = onX W fr a.2 → Q (some (.int r9)) h := hs
    have hf : FrX b h h := FrX.rf
    refine Ct.of rfl (Nat.le_of_ble_eq_true rfl) rfl ?_
    obtain ⟨M, H⟩ := a
    dsimp only at hp hs
    obtain ⟨hp, rfl, hH, hsp⟩ := hp
    have loop : ∀ (n c : Nat) (i : Int32) (v : Int32), c + n = 64 → i = nI c → (v = foldN (onP (W.S 0) W.sp H) (fun d x => minI x (farI fr (nI d) + W.R (H + 2 ^ gN (spV (W.S 0) W.sp d)) d)) 99999 c) → X l G mX0_onwards (rmK d 0 0) (TGm G (fun v h' z' => Q v h' ∧ z' = z) 0 0) 0 0 6 [(0, .ref b), (1, .int fr), (2, .int (nI H)), (3, .int v), (4, .int i)] [] h z := by
      intro  n
      induction n using Nat.strongRecOn with
      | _ n ih =>
      intro c i v  hc hi hv
      subst hi
      refine X.w wkX0_onwards (fcons (ceMin ckX0_193 q792 (by omega)) (fcons (ceS c_far mo2 ckX0_220 (by omega) rfl) (fcons (ceV x_spiceAt xmR1 ckX0_217 rfl xrR1 (by omega) rfl) fnil))) [6] 37 rfl ?_
      refine And.intro (fun b10 => ?_) (fun b10 => ?_)
      · simp only [cP, cN, bI_0, Bool.not_eq_false, lt_nle, Decidable.not_not] at b10
        have hc2 : 64 ≤ c := (le64 (by omega) (by omega)).mp b10
        obtain rfl : c = 64 := by omega
        exact And.intro (hs _ hv) rfl
      · simp only [cP, cN, bI_0, Bool.not_eq_false, lt_nle, Decidable.not_not] at b10
        have hc2 : c < 64 := nle64 b10 (by omega) (by omega)
        refine Exists.intro _ (Exists.intro (M, c) (And.intro hx (And.intro ⟨hp, rfl, hc2⟩ ?_)))
        intro v16 e16
        (try dsimp only at e16)
        refine And.intro (fun b24 => ?_) (fun b24 => ?_)
        · simp only [cP, cN, bI_0, Bool.not_eq_false, lt_nle, Decidable.not_not] at b24
          refine X.cut _ [(5, .int _)] (by exact rfl) (ih (n - 1) (by omega) (c + 1) _ _ (by omega) (nI_1 c) (foldN_sf hv (by unfold onP; rw [← e16, decide_eq_true b24]; rfl)))
        · simp only [cP, cN, bI_0, Bool.not_eq_false, lt_nle, Decidable.not_not] at b24
          obtain ⟨k, hk, ek⟩ : ∃ k, k < 6 ∧ v16 = nI k := by
            rcases hp.spk hsp hc2 with q | q
            · exact absurd (e16.trans q) b24
            · rw [← e16] at q; exact q
          refine And.intro (fun b33 => ?_) (fun b33 => ?_)
          · simp only [cP, cN, bI_0, Bool.not_eq_false, lt_nle, Decidable.not_not] at b33
            refine X.cut _ [(5, .int _)] (by exact rfl) (ih (n - 1) (by omega) (c + 1) _ _ (by omega) (nI_1 c) (foldN_sf hv (by unfold onP; rw [← e16, decide_eq_false b24, decide_eq_false b33]; rfl)))
          · simp only [cP, cN, bI_0, Bool.not_eq_false, lt_nle, Decidable.not_not] at b33
            have hb3 := b33
            rw [ek] at hb3
            obtain ⟨hi5, hi6⟩ := or_bit H hH k hk hb3
            refine gF (by first | assumption | exact hx.rws _ hi6 | exact hx.obj | exact hx.bk | exact hx.rs | exact hx.sp | exact hx.tp | exact hx.w0.obj | exact hx.w0.arr _ rfl) ?_
            refine gR (by first | assumption | exact hx.rws _ hi6 | exact hx.obj | exact hx.bk | exact hx.rs | exact hx.sp | exact hx.tp | exact hx.w0.obj | exact hx.w0.arr _ rfl) (by decide) (ixE (by rw [ek]; exact hi5) hi6 (by decide)) (by exact rfl) ?_
            refine gA (by first | assumption | exact hx.rws _ hi6 | exact hx.obj | exact hx.bk | exact hx.rs | exact hx.sp | exact hx.tp | exact hx.w0.obj | exact hx.w0.arr _ rfl) (ixN hc2 (by decide)) ?_
            refine X.cut _ [(5, .int _)] (by exact rfl) (ih (n - 1) (by omega) (c + 1) _ _ (by omega) (nI_1 c) (foldN_st hv (by unfold onP; rw [← e16, decide_eq_false b24, decide_eq_true b33]; rfl) ?_))
            rw [← e16, ek, gN_nI (by omega)]
    refine X.w wkX0_onwards (fcons (ceMin ckX0_193 q792 (by omega)) (fcons (ceS c_far mo2 ckX0_220 (by omega) rfl) (fcons (ceV x_spiceAt xmR1 ckX0_217 rfl xrR1 (by omega) rfl) fnil))) [6] 6 rfl ?_
    exact loop 64 0 _ _ rfl rfl rfl
/-! the class's ways against the model's -/
def SmB (B : Nat) (x : Int32) : Prop := x = 1000000 ∨ ∃ n, n ≤ B ∧ x = nI n
def cv (x : Int32) : Int32 := if 1000000 ≤ x then 99999 else x
theorem cv_s {n : Nat} (h : n ≤ 2000) : cv (nI n) = nI n := by
  unfold cv
  rw [if_neg]
  intro q
  have := (nI_leI (a := 1000000) (by decide) (by omega)).mp q
  omega
theorem cv_b : cv 1000000 = 99999 := rfl
theorem SmB.le {B : Nat} {x : Int32} (h : SmB B x) (hB : B ≤ 2000) : x ≤ 1000000 := by
  rcases h with e | ⟨n, h1, e⟩
  · rw [e]; decide
  · rw [e]; exact (nI_leI (b := 1000000) (by omega) (by decide)).mpr (by omega)
theorem SmB.up {B C : Nat} {x : Int32} (h : SmB B x) (hB : B ≤ C) : SmB C x := by
  rcases h with e | ⟨n, h1, e⟩
  · exact Or.inl e
  · exact Or.inr ⟨n, by omega, e⟩
theorem not_lt_far {f : Nat} {x : Int32} (hf : f ≤ 14) (hx : x ≤ 1000000) : ¬ nI f + 1000000 < x := by
  rw [Int32.not_lt]
  refine Int32.le_trans hx ?_
  rw [show (1000000 : Int32) = nI 1000000 from rfl, nI_add]
  exact nI_le (by omega) (by omega)
theorem cvmin {B : Nat} {x t : Int32} {f : Nat} (hx : SmB B x) (ht : SmB B t) (hf : f ≤ 14) (hB : B ≤ 1900) : minI (cv x) (nI f + cv t) = cv (if nI f + t < x then nI f + t else x) := by
  rcases ht with rfl | ⟨n, hn, rfl⟩
  · rw [if_neg (not_lt_far hf (hx.le (by omega))), cv_b]
    unfold minI
    rw [if_neg]
    rw [Int32.not_lt, show (99999 : Int32) = nI 99999 from rfl, nI_add]
    rcases hx with rfl | ⟨m, hm, rfl⟩
    · rw [cv_b]; exact nI_le (a := 99999) (by omega) (by omega)
    · rw [cv_s (by omega)]; exact nI_le (by omega) (by omega)
  · rw [cv_s (n := n) (by omega), nI_add]
    unfold minI
    rcases hx with rfl | ⟨m, hm, rfl⟩
    · rw [cv_b, if_pos (show nI (f + n) < 99999 from (nI_ltI (b := 99999) (by omega) (by decide)).mpr (by omega)), if_pos (show nI (f + n) < 1000000 from (nI_ltI (b := 1000000) (by omega) (by decide)).mpr (by omega)), cv_s (by omega)]
    · rw [cv_s (n := m) (by omega)]
      by_cases q : nI (f + n) < nI m
      · rw [if_pos q, cv_s (by omega)]
      · rw [if_neg q, cv_s (by omega)]
theorem smin {B B2 : Nat} {x t : Int32} {f : Nat} (hx : SmB B x) (ht : SmB B2 t) (hf : f ≤ 14) (hB : B ≤ 1900) (h2 : B2 + 14 ≤ B) : SmB B (if nI f + t < x then nI f + t else x) := by
  rcases ht with rfl | ⟨n, hn, rfl⟩
  · rw [if_neg (not_lt_far hf (hx.le (by omega)))]; exact hx
  · rw [nI_add]
    split
    · exact Or.inr ⟨f + n, by omega, rfl⟩
    · exact hx
theorem far_bd : ∀ a, a < 64 → ∀ c, c < 64 → farI (nI a) (nI c) = nI (gN (farI (nI a) (nI c))) ∧ gN (farI (nI a) (nI c)) ≤ 14 := by decide +kernel
theorem bit_cmp0 : ∀ N, N < 7 → ∀ H, H < 64 → ∀ k, k < 6 → (!(decide (H < 2 ^ N)) || !(decide (k < N)) || ((decide ((nI H >>> (nI k &&& 31)) &&& 1 = 0) == !(decide ((nI (2 ^ N - 1 - H) >>> (nI k &&& 31)) &&& 1 = 0))) && (!(decide ((nI H >>> (nI k &&& 31)) &&& 1 = 0)) || decide (H + 2 ^ k < 2 ^ N)))) = true := by decide +kernel
theorem bit_cmp (N : Nat) (hN : N < 7) (H : Nat) (h64 : H < 64) (k : Nat) (h6 : k < 6) (hH : H < 2 ^ N) (hkN : k < N) : (((nI H >>> (nI k &&& 31)) &&& 1 = 0) ↔ ¬ ((nI (2 ^ N - 1 - H) >>> (nI k &&& 31)) &&& 1 = 0)) ∧ ((nI H >>> (nI k &&& 31)) &&& 1 = 0 → H + 2 ^ k < 2 ^ N) := by
  have h := bit_cmp0 N hN H h64 k h6
  rw [decide_eq_true hH, decide_eq_true hkN] at h
  by_cases a : (nI H >>> (nI k &&& 31)) &&& 1 = 0
  · rw [decide_eq_true a] at h
    by_cases c : (nI (2 ^ N - 1 - H) >>> (nI k &&& 31)) &&& 1 = 0
    · rw [decide_eq_true c] at h
      exact absurd h (by simp)
    · rw [decide_eq_false c] at h
      exact ⟨⟨fun _ => c, fun _ => a⟩, fun _ => by simpa using h⟩
  · rw [decide_eq_false a] at h
    by_cases c : (nI (2 ^ N - 1 - H) >>> (nI k &&& 31)) &&& 1 = 0
    · exact ⟨⟨fun z => absurd z a, fun z => absurd c z⟩, fun z => absurd z a⟩
    · rw [decide_eq_false c] at h
      exact absurd h (by simp)
theorem tabF_lo (S : SS) {l : Nat} : ∀ {n j : Nat}, l ≤ n → j < 64 * l → tabF S n j = tabF S l j
  | 0, j, h, hj => by
    have : l = 0 := by omega
    subst this; rfl
  | n + 1, j, h, hj => by
    rcases Nat.lt_or_ge n l with e | e
    · rw [show l = n + 1 from by omega]
    · show (if 64 * n ≤ j ∧ j < 64 * n + 64 then _ else tabF S n j) = _
      rw [if_neg (by omega)]
      exact tabF_lo S e hj
theorem tab_fix {S : SS} (hS : SoOk S) {n l c : Nat} (hn : n ≤ 64) (hl : l < n) (hc : c < 64) : tabF S n (64 * l + c) = wfM (setF S 20 (tabF S n)) (nI c) l := by
  rw [tabF_lo S (l := l + 1) (by omega) (by omega)]
  show (if 64 * l ≤ 64 * l + c ∧ 64 * l + c < 64 * l + 64 then wfM (setF S 20 (tabF S l)) (nI (64 * l + c - 64 * l)) l else tabF S l (64 * l + c)) = _
  rw [if_pos (by omega), show 64 * l + c - 64 * l = c from by omega]
  exact wf_congr (by omega) hS (fun j hj => (tabF_lo S (by omega) hj).symm) _
section SO
variable {W : XW} {M : SS} {s N : Nat} {f0 : Nat → Int32}
/-- the model with its places and rows of ways -/
def soU (M : SS) (s N : Nat) : SS := setF (soS M s) 20 (tabF (soS M s) (2 ^ N))
theorem RelX.soOk (r : RelX W M) (hN : cb s 12 = N) (h6 : N ≤ 6) : SoOk (soS M s) := by
  refine ⟨r.wd, r.ge, fun x hx => ?_⟩
  show plF M s 12 x = -1 ∨ ∃ k, k < 6 ∧ plF M s 12 x = nI k
  unfold plF
  rw [if_pos hx]
  unfold plc
  by_cases hb : s / 2 ^ x % 2 = 1
  · rw [if_pos hb]
    exact Or.inr ⟨cb s x, by have := cb_lt s hx hb; omega, rfl⟩
  · rw [if_neg hb]
    exact Or.inl rfl
theorem plX_ok (hN : cb s 12 = N) (h6 : N ≤ 6) : SpOk (plX f0 s 12) := by
  intro x hx
  unfold plX
  rw [if_pos hx]
  unfold plc
  by_cases hb : s / 2 ^ x % 2 = 1
  · rw [if_pos hb]
    exact Or.inr ⟨cb s x, by have := cb_lt s hx hb; omega, rfl⟩
  · rw [if_neg hb]
    exact Or.inl rfl
theorem RelX.spN (r : RelX W M) (hN : cb s 12 = N) (h6 : N ≤ 6) {c : Nat} (hc : c < 64) (h : ¬ spV (W.S 0) (plX f0 s 12) c = -1) : ∃ k, k < 6 ∧ k < N ∧ spV (W.S 0) (plX f0 s 12) c = nI k := by
  unfold spV at h ⊢
  by_cases q : capB (W.S 0) (nI c) = true
  · rw [if_pos q] at h ⊢
    have hw : gN (W.S 0 2 c) < 12 := by have := (cap_word r.w hc q).1.2; omega
    unfold plX at h ⊢
    rw [if_pos hw] at h ⊢
    unfold plc at h ⊢
    by_cases hb : s / 2 ^ gN (W.S 0 2 c) % 2 = 1
    · rw [if_pos hb]
      have := cb_lt s hw hb
      exact ⟨cb s (gN (W.S 0 2 c)), by omega, by omega, rfl⟩
    · rw [if_neg hb] at h; exact absurd rfl h
  · rw [if_neg q] at h; exact absurd rfl h
/-- the model's way by the class's spices -/
theorem RelX.wb (r : RelX W M) {c l : Nat} {fr : Int32} (hc : c < 64) : wbM (soU M s N) fr l c = if spV (W.S 0) (plX f0 s 12) c = -1 then 1000000 else if (nI l >>> (spV (W.S 0) (plX f0 s 12) c &&& 31)) &&& 1 = 0 then 1000000 else farI fr (nI c) + tabF (soS M s) (2 ^ N) (64 * (l - 2 ^ gN (spV (W.S 0) (plX f0 s 12) c)) + c) := by
  unfold wbM
  by_cases q : capB (W.S 0) (nI c) = true
  · have h1 := (cap_t r.w hc).mp q
    have hw : gN (W.S 0 2 c) < 12 := by have := (cap_word r.w hc q).1.2; omega
    have e2 : plM (soU M s N) c = spV (W.S 0) (plX f0 s 12) c := by
      unfold plM spV
      rw [if_pos q]
      show plF M s 12 (gN (M 1 c - 1)) = _
      rw [r.wd1 hc]
      unfold plF plX
      rw [if_pos hw, if_pos hw]
    rw [show soU M s N 1 c = M 1 c from rfl, if_neg (fun e => by rw [e] at h1; exact absurd h1 (by decide)), e2]
    rfl
  · have h0 : capB (W.S 0) (nI c) = false := by rw [Bool.not_eq_true] at q; exact q
    rw [show soU M s N 1 c = M 1 c from rfl, if_pos ((cap_f r.w hc).mp h0)]
    unfold spV
    rw [if_neg q, if_pos rfl]
theorem RelX.wfB (r : RelX W M) (hN : cb s 12 = N) (h6 : N ≤ 6) : ∀ (l : Nat), l < 2 ^ N → ∀ f, f < 64 → SmB (14 * l) (wfM (soU M s N) (nI f) l) := by
  have hP : 2 ^ N ≤ 64 := Nat.pow_le_pow_right (n := 2) (by decide) h6
  have hso := r.soOk hN h6
  intro l
  induction l using Nat.strongRecOn with
  | _ l ih =>
  intro hl f hf
  unfold wfM
  by_cases h0 : l = 0
  · rw [if_pos h0]; exact Or.inr ⟨0, by omega, rfl⟩
  rw [if_neg h0]
  have key : ∀ n, n ≤ 64 → SmB (14 * l) (foldN (fun _ => true) (fun c x => if wbM (soU M s N) (nI f) l c < x then wbM (soU M s N) (nI f) l c else x) 1000000 n) := by
    intro n
    induction n with
    | zero => intro _; exact Or.inl rfl
    | succ n ihn =>
      intro hn
      have hx := ihn (by omega)
      rw [foldN_t rfl]
      generalize foldN (fun _ => true) (fun c x => if wbM (soU M s N) (nI f) l c < x then wbM (soU M s N) (nI f) l c else x) 1000000 n = x at hx
      have hle := hx.le (by omega)
      rw [r.wb (f0 := fun _ => 0) (c := n) (by omega)]
      by_cases q : spV (W.S 0) (plX (fun _ => 0) s 12) n = -1
      · rw [if_pos q, if_neg (by rw [Int32.not_lt]; exact hle)]; exact hx
      · rw [if_neg q]
        obtain ⟨k, hk, hkN, ek⟩ := r.spN hN h6 (by omega) q
        rw [ek]
        by_cases q2 : (nI l >>> (nI k &&& 31)) &&& 1 = 0
        · rw [if_pos q2, if_neg (by rw [Int32.not_lt]; exact hle)]; exact hx
        · rw [if_neg q2, gN_nI (by omega)]
          have hb := (bit_clr l (by omega) k hk q2).2
          have hp0 : 0 < 2 ^ k := Nat.two_pow_pos k
          obtain ⟨f1, f2⟩ := far_bd f hf n (by omega)
          rw [f1, tab_fix hso hP (by omega) (by omega)]
          exact smin hx (ih (l - 2 ^ k) (by omega) (by omega) n (by omega)) f2 (by omega) (by omega)
  exact key 64 (Nat.le_refl 64)
/-- rows of 'rest' above H are made -/
def HR (W : XW) (M : SS) (f0 : Nat → Int32) (s N H : Nat) (R : SS) : Prop := ∀ hh, H < hh → hh < 2 ^ N → ∀ c, c < 64 → ¬ spV (W.S 0) (plX f0 s 12) c = -1 → R hh c = cv (tabF (soS M s) (2 ^ N) (64 * (2 ^ N - 1 - hh) + c))
theorem RelX.on (r : RelX W M) (hN : cb s 12 = N) (h6 : N ≤ 6) {H f : Nat} {R : SS} (hH : H < 2 ^ N - 1) (hf : f < 64) (hR : HR W M f0 s N H R) : onX (W.rs R (plX f0 s 12)) (nI f) H = cv (wfM (soU M s N) (nI f) (2 ^ N - 1 - H)) := by
  have hP : 2 ^ N ≤ 64 := Nat.pow_le_pow_right (n := 2) (by decide) h6
  have hso := r.soOk hN h6
  unfold onX wfM
  rw [if_neg (by omega)]
  show foldN (onP (W.S 0) (plX f0 s 12) H) (fun d x => minI x (farI (nI f) (nI d) + R (H + 2 ^ gN (spV (W.S 0) (plX f0 s 12) d)) d)) 99999 64 = _
  have key : ∀ n, n ≤ 64 → foldN (onP (W.S 0) (plX f0 s 12) H) (fun d x => minI x (farI (nI f) (nI d) + R (H + 2 ^ gN (spV (W.S 0) (plX f0 s 12) d)) d)) 99999 n = cv (foldN (fun _ => true) (fun c x => if wbM (soU M s N) (nI f) (2 ^ N - 1 - H) c < x then wbM (soU M s N) (nI f) (2 ^ N - 1 - H) c else x) 1000000 n) ∧ SmB 1000 (foldN (fun _ => true) (fun c x => if wbM (soU M s N) (nI f) (2 ^ N - 1 - H) c < x then wbM (soU M s N) (nI f) (2 ^ N - 1 - H) c else x) 1000000 n) := by
    intro n
    induction n with
    | zero => intro _; exact ⟨rfl, Or.inl rfl⟩
    | succ n ihn =>
      intro hn
      obtain ⟨he, hx⟩ := ihn (by omega)
      rw [foldN_t (p := fun _ => true) rfl]
      generalize foldN (fun _ => true) (fun c x => if wbM (soU M s N) (nI f) (2 ^ N - 1 - H) c < x then wbM (soU M s N) (nI f) (2 ^ N - 1 - H) c else x) 1000000 n = x at hx he
      have hle := hx.le (by omega)
      rw [r.wb (f0 := f0) (c := n) (by omega)]
      by_cases q : spV (W.S 0) (plX f0 s 12) n = -1
      · rw [foldN_f (by unfold onP; rw [decide_eq_true q]; rfl), if_pos q, if_neg (by rw [Int32.not_lt]; exact hle)]
        exact ⟨he, hx⟩
      · rw [if_neg q]
        obtain ⟨k, hk, hkN, ek⟩ := r.spN hN h6 (by omega) q
        obtain ⟨b1, b2⟩ := bit_cmp N (by omega) H (by omega) k hk (by omega) hkN
        by_cases q2 : (nI H >>> (nI k &&& 31)) &&& 1 = 0
        · have q3 := b1.mp q2
          have hb := (bit_clr (2 ^ N - 1 - H) (by omega) k hk q3).2
          have hp0 : 0 < 2 ^ k := Nat.two_pow_pos k
          rw [foldN_t (by unfold onP; rw [decide_eq_false q, ek, decide_eq_true q2]; rfl), he]
          obtain ⟨f1, f2⟩ := far_bd f hf n (by omega)
          have hb2 := b2 q2
          have ew := hR (H + 2 ^ k) (by omega) hb2 n (by omega) q
          have ht := r.wfB hN h6 (2 ^ N - 1 - H - 2 ^ k) (by omega) n (by omega)
          have etx : tabF (soS M s) (2 ^ N) (64 * (2 ^ N - 1 - H - 2 ^ k) + n) = wfM (soU M s N) (nI n) (2 ^ N - 1 - H - 2 ^ k) := tab_fix hso hP (by omega) (by omega)
          rw [show 2 ^ N - 1 - (H + 2 ^ k) = 2 ^ N - 1 - H - 2 ^ k from by omega, etx] at ew
          rw [ek, if_neg q3, gN_nI (by omega), ew, f1, etx]
          exact ⟨cvmin hx (ht.up (by omega)) f2 (by omega), smin hx (ht.up (C := 882) (by omega)) f2 (by omega) (by omega)⟩
        · have q3 : (nI (2 ^ N - 1 - H) >>> (nI k &&& 31)) &&& 1 = 0 := Decidable.byContradiction (fun z => q2 (b1.mpr z))
          rw [foldN_f (by unfold onP; rw [decide_eq_false q, ek, decide_eq_false q2]; rfl), ek, if_pos q3, if_neg (by rw [Int32.not_lt]; exact hle)]
          exact ⟨he, hx⟩
  exact (key 64 (Nat.le_refl 64)).1
end SO
