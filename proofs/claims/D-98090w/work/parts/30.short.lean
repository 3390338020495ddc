set_option maxRecDepth 100000
/-! SHORT ROWS: what a stretch of code asks, an instruction a row. -/
section SH
variable {l : Launch} {G : GG} {h : AH} {a : Nat} {i : Int32}
theorem gF {ci : Nat} {P : List Value → Prop} {fs : List Value} (h1 : h a = some (.inr (ci, fs))) (k : P fs) : ∃ fs : List Value, h a = some (.inr (ci, fs)) ∧ P fs := ⟨fs, h1, k⟩
theorem pF0 {ci k : Nat} {ty : FieldType} {w : Value} {P : List Value → Prop} {fs : List Value} (h0 : okW ty w) (h1 : h a = some (.inr (ci, fs))) (h2 : k < fs.length) (h3 : G.2.2.1.size ≤ a) (kk : P fs) : okW ty w ∧ ∃ fs : List Value, h a = some (.inr (ci, fs)) ∧ k < fs.length ∧ G.2.2.1.size ≤ a ∧ P fs := ⟨h0, fs, h1, h2, h3, kk⟩
theorem gA {P : Nat → (Nat → Int32) → Nat → Prop} {n j t : Nat} {f : Nat → Int32} (h1 : h a = some (.inl (G.2.1 t, n, .inl f))) (h2 : IX i n j) (k : P n f j) : ∃ (n : Nat) (f : Nat → Int32), h a = some (.inl (G.2.1 t, n, .inl f)) ∧ ∃ j, IX i n j ∧ P n f j := ⟨n, f, h1, j, h2, k⟩
theorem sA {P : Nat → (Nat → Int32) → Nat → Prop} {n j t : Nat} {f : Nat → Int32} (h1 : h a = some (.inl (G.2.1 t, n, .inl f))) (h2 : IX i n j) (h3 : G.2.2.1.size ≤ a) (k : P n f j) : ∃ (n : Nat) (f : Nat → Int32), h a = some (.inl (G.2.1 t, n, .inl f)) ∧ ∃ j, IX i n j ∧ G.2.2.1.size ≤ a ∧ P n f j := ⟨n, f, h1, j, h2, h3, k⟩
theorem gR {P : Nat → Prop} {t n j b : Nat} {f : Nat → Option Nat} (h1 : h a = some (.inl (G.2.1 t, n, .inr (.inr (.inr (.inr f)))))) (h0 : t = 2 ∨ t = 3 ∨ t = 4 ∨ t = 5) (h2 : IX i n j) (h3 : f j = some b) (k : P b) : ∃ (t n : Nat) (f : Nat → Option Nat) (j b : Nat), (t = 2 ∨ t = 3 ∨ t = 4 ∨ t = 5) ∧ h a = some (.inl (G.2.1 t, n, .inr (.inr (.inr (.inr f))))) ∧ IX i n j ∧ f j = some b ∧ P b := ⟨t, n, f, j, b, h0, h1, h2, h3, k⟩
theorem gL {P : vp_A → Prop} {t : Nat} {x : vp_A} (h1 : h a = some (.inl (G.2.1 t, x))) (h0 : t < 6) (k : P x) : ∃ (t : Nat) (x : vp_A), t < 6 ∧ h a = some (.inl (G.2.1 t, x)) ∧ P x := ⟨t, x, h0, h1, k⟩
theorem ixN {j n : Nat} (h1 : j < n) (h2 : n < 2147483648) : IX (nI j) n j := ⟨rfl, h1, h2⟩
theorem ixE {j n : Nat} (e : i = nI j) (h1 : j < n) (h2 : n < 2147483648) : IX i n j := ⟨e, h1, h2⟩
end SH
/-- a contract: where sp holds of the arguments and the heap, the method comes back to what sp says -/
def CtS (M : Mth) (k : Nat) (sp : GG → CSpec) : Prop := ∀ (l : Launch) (G : GG) (d : Nat), k ≤ d → ∀ (as : List Value) (h : AH) (z : Nat) (Q : Option Value → AH → Prop), sp G as h Q → Ct l G M d 0 0 as h z (fun v h' z' => Q v h' ∧ z' = z)
theorem ceV {l : Launch} {G : GG} {M M' : Mth} {C : String} {T : u_T} {N ci idx n k d mc ms : Nat} {sp : GG → CSpec} (c : CtS M' k sp) (hmo : Mono (sp G)) (hk : CkV M.1.cls idx C M' n) (hc : CL[ci]? = some (C, T, N)) (hsp : ∀ as h Q, as.length = n + 1 → sp G as h Q → ∃ b as', as = .ref b :: as' ∧ ∃ fs, h b = some (.inr (ci, fs))) (hd : k + 1 ≤ d) (hm : Nat.ble M'.2.2.1 21 = true) : CallOk l G M (rmK d mc ms) (idx, false, n + 1, sp G) ∧ Mono (sp G) := by
  have hm := Nat.le_of_ble_eq_true hm
  refine ⟨fun TG cs ss pc z L as rest h hcs hdec hn hcat hs => ?_, hmo⟩
  have hct := c l G (d - 1) (by omega) as h z _ hs
  obtain ⟨b, as', rfl, fs, hb⟩ := hsp as h _ hn hs
  refine X.callV0 (As := as') hk hdec hct hb hc (by simp) (by simpa using hn) (by show _ ≤ d; omega) (by show _ ≤ 40 * d; omega) hcs (Nat.le_trans (catS_le rest) hcat) ?_
  intro v h' z' hP
  obtain ⟨hP, rfl⟩ := hP
  exact hP
theorem ceS {l : Launch} {G : GG} {M M' : Mth} {idx n k d mc ms : Nat} {sp : GG → CSpec} (c : CtS M' k sp) (hmo : Mono (sp G)) (hk : CkS M.1.cls idx M' n) (hd : k + 1 ≤ d) (hm : Nat.ble M'.2.2.1 21 = true) : CallOk l G M (rmK d mc ms) (idx, true, n, sp G) ∧ Mono (sp G) := by
  have hm := Nat.le_of_ble_eq_true hm
  refine ⟨fun TG cs ss pc z L as rest h hcs hdec hn hcat hs => ?_, hmo⟩
  have hct := c l G (d - 1) (by omega) as h z _ hs
  refine X.callS0 (As := as) hk hdec hct rfl hn (by show _ ≤ d; omega) (by show _ ≤ 40 * d; omega) hcs (Nat.le_trans (catS_le rest) hcat) ?_
  intro v h' z' hP
  obtain ⟨hP, rfl⟩ := hP
  exact hP
def bI (b : Bool) : Int32 := bif b then 1 else 0
theorem bI_0 {b : Bool} : bI b = 0 ↔ b = false := by cases b <;> decide
theorem bI_n0 {b : Bool} : ¬ bI b = 0 ↔ b = true := by cases b <;> decide
theorem bI_1 {b : Bool} : bI b = 1 ↔ b = true := by cases b <;> decide
theorem bI_01 (b : Bool) : bI b = 0 ∨ bI b = 1 := by cases b <;> decide
/-! pure calls: an int out of ints -/
def sp1 (f : Int32 → Int32) : GG → CSpec := fun _ as h Q => match as with
  | [.int x] => Q (some (.int (f x))) h
  | _ => False
def sp2 (f : Int32 → Int32 → Int32) : GG → CSpec := fun _ as h Q => match as with
  | [.int x, .int y] => Q (some (.int (f x y))) h
  | _ => False
def sp3 (f : Int32 → Int32 → Int32 → Int32) : GG → CSpec := fun _ as h Q => match as with
  | [.int x, .int y, .int u] => Q (some (.int (f x y u))) h
  | _ => False
theorem mo1 {f : Int32 → Int32} {G : GG} : Mono (sp1 f G) := by
  intro as h Q Q' hQ hs
  unfold sp1 at hs ⊢
  split at hs
  · exact hQ _ _ hs
  · exact hs.elim
theorem mo2 {f : Int32 → Int32 → Int32} {G : GG} : Mono (sp2 f G) := by
  intro as h Q Q' hQ hs
  unfold sp2 at hs ⊢
  split at hs
  · exact hQ _ _ hs
  · exact hs.elim
theorem mo3 {f : Int32 → Int32 → Int32 → Int32} {G : GG} : Mono (sp3 f G) := by
  intro as h Q Q' hQ hs
  unfold sp3 at hs ⊢
  split at hs
  · exact hQ _ _ hs
  · exact hs.elim
/-! Math.max, min, abs: the machine's own rows -/
def absI (x : Int32) : Int32 := if 0 ≤ x then x else 0 - x
def maxI (a b : Int32) : Int32 := if a < b then b else a
def minI (a b : Int32) : Int32 := if b < a then b else a
theorem ceMax {l : Launch} {G : GG} {M : Mth} {idx d mc ms : Nat} (hk : CkS M.1.cls idx mJ3_max 2) (hl0 : Cond.methodLink M.1.cls idx mJ3_max.1 ∈ lw_all) (hd : 1 ≤ d) : CallOk l G M (rmK d mc ms) (idx, true, 2, sp2 maxI G) ∧ Mono (sp2 maxI G) := by
  refine ⟨fun TG cs ss pc z L as rest h hcs hdec hn hcat hs => ?_, mo2⟩
  match as, hs with
  | [.int x, .int y], hs =>
    intro p e s m args below meth c H locs ls E C R hq hl
    obtain ⟨⟨-, hi, hcode, -⟩, hst⟩ := hk
    have ht := E.2.2.2.2.2.2.1
    exact va_mmax (rest := rest) E.1 E.2.1 (by rw [hl.1]; exact E.2.2.2.2.1) E.2.2.2.2.2.1 (ht _ hl0) (ht _ hst) (ht _ hi) (ht _ hcode) (by show _ ≤ d; omega) (by show _ ≤ 40 * d; have := Nat.le_trans (catS_le rest) hcat; omega) hcs.1 hcs.2 hdec (hs p e s m args below meth c H locs ls E C R hq hl)
theorem ceMin {l : Launch} {G : GG} {M : Mth} {idx d mc ms : Nat} (hk : CkS M.1.cls idx mJ3_min 2) (hl0 : Cond.methodLink M.1.cls idx mJ3_min.1 ∈ lw_all) (hd : 1 ≤ d) : CallOk l G M (rmK d mc ms) (idx, true, 2, sp2 minI G) ∧ Mono (sp2 minI G) := by
  refine ⟨fun TG cs ss pc z L as rest h hcs hdec hn hcat hs => ?_, mo2⟩
  match as, hs with
  | [.int x, .int y], hs =>
    intro p e s m args below meth c H locs ls E C R hq hl
    obtain ⟨⟨-, hi, hcode, -⟩, hst⟩ := hk
    have ht := E.2.2.2.2.2.2.1
    exact va_mmin (rest := rest) E.1 E.2.1 (by rw [hl.1]; exact E.2.2.2.2.1) E.2.2.2.2.2.1 (ht _ hl0) (ht _ hst) (ht _ hi) (ht _ hcode) (by show _ ≤ d; omega) (by show _ ≤ 40 * d; have := Nat.le_trans (catS_le rest) hcat; omega) hcs.1 hcs.2 hdec (hs p e s m args below meth c H locs ls E C R hq hl)
theorem ceAbs {l : Launch} {G : GG} {M : Mth} {idx d mc ms : Nat} (hk : CkS M.1.cls idx mJ3_abs 1) (hl0 : Cond.methodLink M.1.cls idx mJ3_abs.1 ∈ lw_all) (hd : 1 ≤ d) : CallOk l G M (rmK d mc ms) (idx, true, 1, sp1 absI G) ∧ Mono (sp1 absI G) := by
  refine ⟨fun TG cs ss pc z L as rest h hcs hdec hn hcat hs => ?_, mo1⟩
  match as, hs with
  | [.int x], hs =>
    intro p e s m args below meth c H locs ls E C R hq hl
    obtain ⟨⟨-, hi, hcode, -⟩, hst⟩ := hk
    have ht := E.2.2.2.2.2.2.1
    exact va_mabs (rest := rest) E.1 E.2.1 (by rw [hl.1]; exact E.2.2.2.2.1) E.2.2.2.2.2.1 (ht _ hl0) (ht _ hst) (ht _ hi) (ht _ hcode) (by show _ ≤ d; omega) (by show _ ≤ 40 * d; have := Nat.le_trans (catS_le rest) hcat; omega) hcs.1 hcs.2 hdec (hs p e s m args below meth c H locs ls E C R hq hl)
theorem X.w {l : Launch} {G : GG} {M : Mth} {d mc ms pc z : Nat} {P : Option Value → AH → Nat → Prop} {L : LL} {st : List Value} {h : AH} {pg r0 : List IE} {ini : Bool} {ft : List FtE} {ct : List (Nat × Int32)} {ce : List CE} (w : WK M ini ft ct pg) (hce : ∀ q ∈ ce, CallOk l G M (rmK d mc ms) q ∧ Mono q.2.2.2) (stops : List Nat) (n : Nat) {x : Instr × Nat × Int32 × Nat} (hsk : seek pg pc = (pc, x) :: r0)
    (k : bk G ini ft ct ce M.2.2.2 (fun v h => P v h z) pg stops (fun pc L st h => X l G M (rmK d mc ms) (TGm G P mc ms) 0 0 pc L st h z) n ((pc, x) :: r0) L st h) : X l G M (rmK d mc ms) (TGm G P mc ms) 0 0 pc L st h z :=
  X.walk w hce (RetOk.m (Nat.zero_le _) (Nat.zero_le _)) ⟨Nat.zero_le _, Nat.zero_le _⟩ stops n hsk k
theorem lt_nle {x y : Int32} : x < y ↔ ¬ y ≤ x := Int32.not_le.symm
theorem X.cut {l : Launch} {G : GG} {M : Mth} {rm : Room} {TG : List Frame → Array Value → State → Program → Env → MethodId → Method → Code → State → Prop} {cs ss pc z : Nat} {L : LL} {st : List Value} {h : AH} (L' R : LL) (e : L = L' ++ R) (k : X l G M rm TG cs ss pc L' st h z) : X l G M rm TG cs ss pc L st h z :=
  X.sub k (fun q hq => by rw [e]; exact List.mem_append_left R hq)
