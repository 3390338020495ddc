set_option maxRecDepth 100000
/-! THE READER'S LITERALS: String.length, String.charAt over them -/
abbrev OldA (G : GG) : Nat → Prop := fun q => G.2.2.1.size ≤ q
theorem Rp.old {G : GG} {h : AH} {z : Nat} {H : Heap} (R : Rp G h z H) : ∀ a : Nat, a < G.2.2.1.size → ¬ OldA G a → H[a]? = G.2.2.1[a]? := fun a ha _ => R.2.2.1 a ha
theorem Cx.lit {G : GG} {s : State} (C : Cx G s) {i : Nat} (hi : i < 14) : va_O "java/lang/String" (G.2.2.2 (1 + i)) (OldA G) s G.2.2.1 ∧ va_OF "java/lang/String" "coder" "B" (.int 0) (G.2.2.2 (1 + i)) (OldA G) s G.2.2.1 ∧ va_OF "java/lang/String" "value" "[B" (.ref (G.2.2.2 (20 + i))) (G.2.2.2 (1 + i)) (OldA G) s G.2.2.1 ∧ va_T .byte (G.2.2.2 (20 + i)) (litL.getD i 0) (fun j => .int ((litB.getD i []).getD j 0)) (OldA G) s G.2.2.1 := by
  obtain ⟨s0, hW, hE⟩ := C.E
  exact (vk_S.moved hW.alike hE.2.2).1 i hi
theorem Cx.nar {G : GG} {s : State} (C : Cx G s) : ∃ (s0 : State) (b : Nat), G.2.2.1 = s0.heap ∧ s0.WarmedH s.vm ∧ (∀ w ∈ lw_tbl, w.before #[Value.ref b] s0 = true) ∧ narrow_1.before #[Value.ref b] s0 = true := by
  obtain ⟨s0, b, e0, hW, ht, hn, hK, hE⟩ := C
  exact ⟨s0, b, e0, hW, ht, (c_and hn).2⟩
theorem stc_compact {G : GG} : Stc G "java/lang/String" "COMPACT_STRINGS" "Z" (.int 1) := by
  intro s C
  obtain ⟨s0, b, e0, hW, ht, n0⟩ := C.nar
  have n1 := (c_and (show (Cond.and _ _).before #[Value.ref b] s0 = true from n0)).1
  have n2 := (c_and (show (Cond.and _ _).before #[Value.ref b] s0 = true from n1)).1
  have n3 := (c_and (show (Cond.and _ _).before #[Value.ref b] s0 = true from n2)).1
  have n4 := (c_and (show (Cond.and _ _).before #[Value.ref b] s0 = true from n3)).1
  have n5 := (c_and (show (Cond.and _ _).before #[Value.ref b] s0 = true from n4)).1
  have n6 := (c_and (show (Cond.and _ _).before #[Value.ref b] s0 = true from n5)).2
  have n7 := (c_and (show (Cond.and _ _).before #[Value.ref b] s0 = true from n6)).2
  have n8 := (c_and (show (Cond.and _ _).before #[Value.ref b] s0 = true from n7)).2
  have hA : ∀ a : Nat, a < s0.heap.size → ¬ (fun q => G.2.2.1.size ≤ q) a := fun a ha => by
    show ¬ G.2.2.1.size ≤ a
    rw [e0]; omega
  have z1 := va_Zof (A := fun q => G.2.2.1.size ≤ q) (ht _ q413) (ht _ (lw_all_tbl q100)) (va_eqi n8) hA
  rw [← e0] at z1
  exact va_Z.moved hW.alike z1
theorem stc_sioobe {G : GG} {s : State} (C : Cx G s) : ∃ v, (v = Value.null ∨ ∃ a, v = Value.ref a) ∧ va_Z "jdk/internal/util/Preconditions" "SIOOBE_FORMATTER" "Ljava/util/function/BiFunction;" v (fun q => G.2.2.1.size ≤ q) s G.2.2.1 := by
  obtain ⟨s0, b, e0, hW, ht, n0⟩ := C.nar
  have n1 := (c_and (show (Cond.and _ _).before #[Value.ref b] s0 = true from n0)).1
  have n2 := (c_and (show (Cond.and _ _).before #[Value.ref b] s0 = true from n1)).1
  have n3 := (c_and (show (Cond.and _ _).before #[Value.ref b] s0 = true from n2)).1
  have n4 := (c_and (show (Cond.and _ _).before #[Value.ref b] s0 = true from n3)).1
  have n5 := (c_and (show (Cond.and _ _).before #[Value.ref b] s0 = true from n4)).2
  have n6 := (c_and (show (Cond.and _ _).before #[Value.ref b] s0 = true from n5)).1
  have n7 := (c_and (show (Cond.and _ _).before #[Value.ref b] s0 = true from n6)).1
  have n8 := (c_and (show (Cond.and _ _).before #[Value.ref b] s0 = true from n7)).1
  have hA : ∀ a : Nat, a < s0.heap.size → ¬ (fun q => G.2.2.1.size ≤ q) a := fun a ha => by
    show ¬ G.2.2.1.size ≤ a
    rw [e0]; omega
  have z1 := va_Zqof (A := fun q => G.2.2.1.size ≤ q) (ht _ q429) (ht _ (lw_all_tbl q102)) n8 hA
  rw [← e0] at z1
  rcases z1 with z1 | ⟨a, z1⟩
  · exact ⟨_, Or.inl rfl, va_Z.moved hW.alike z1⟩
  · exact ⟨_, Or.inr ⟨a, rfl⟩, va_Z.moved hW.alike z1⟩
section XL
variable {l : Launch} {G : GG} {M : Mth} {rm : Room} {TG : List Frame → Array Value → State → Program → Env → MethodId → Method → Code → State → Prop} {cs ss pc z : Nat} {L : LL} {st : List Value} {h : AH} {pg : List IE} {idx : Nat} {v0 : Int32} {t0 : Nat} {r0 : List IE}
theorem X.lget {o n d : String} {v : Value} {q : Nat} (hO : ∀ s, Cx G s → va_OF o n d v q (OldA G) s G.2.2.1) (hlink : Cond.fieldLink M.1.cls idx o n d ∈ lw_all) (hpg : PgOk M pg) (hsk : seek pg pc = (pc, .getfield idx, 3, v0, t0) :: r0) (hv : v.category = 1) (kk : X l G M rm TG cs ss (pc + 3) L (v :: st) h z) : X l G M rm TG cs ss pc L (.ref q :: st) h z := by
  intro p e s m args below meth c H locs ls E C0 R hq hl
  obtain ⟨cf, k, fi, f, cell, h1, h2, h3, h4, h5, h6⟩ := (hO s C0).kept R.old
  exact W.getf E.1 E.2.1 E.2.2.2.2.2.1 (E.2.2.2.2.2.2.1 _ hlink) h1 h2 h3 h4 (v := v) h5 rfl rfl (pg_at hpg hsk) (kk p e s m args below meth c H locs ls E C0 R hq hl)
theorem X.llen {t N : Nat} {f : Nat → Value} (hT : ∀ s, Cx G s → va_T .byte t N f (OldA G) s G.2.2.1) (hpg : PgOk M pg) (hsk : seek pg pc = (pc, .arraylength, 1, v0, t0) :: r0) (kk : X l G M rm TG cs ss (pc + 1) L (.int (nI N) :: st) h z) : X l G M rm TG cs ss pc L (.ref t :: st) h z := by
  intro p e s m args below meth c H locs ls E C0 R hq hl
  obtain ⟨cell, h1, h2, h3, h4, h5, h6, h7⟩ := (hT s C0).kept R.old
  exact W.alen (n := Int32.ofNat N) E.1 E.2.1 h1 h2 h5 rfl rfl (pg_at hpg hsk) (kk p e s m args below meth c H locs ls E C0 R hq hl)
theorem X.lbal {t N j : Nat} {f : Nat → Value} {i : Int32} {v : Value} (hT : ∀ s, Cx G s → va_T .byte t N f (OldA G) s G.2.2.1) (hi : IX i N j) (hv : f j = v) (hpg : PgOk M pg) (hsk : seek pg pc = (pc, .baload, 1, v0, t0) :: r0) (kk : X l G M rm TG cs ss (pc + 1) L (v :: st) h z) : X l G M rm TG cs ss pc L (.int i :: .ref t :: st) h z := by
  intro p e s m args below meth c H locs ls E C0 R hq hl
  obtain ⟨cell, h1, h2, h3, h4, h5, h6, h7⟩ := (hT s C0).kept R.old
  obtain ⟨g1, g2⟩ := hi.vp
  have hlt : i.toNatClampNeg < N := Nat.not_le.mp fun q => g1 (Or.inr q)
  have hin' : ¬ (i < 0 ∨ cell.slots.size ≤ i.toNatClampNeg) := by
    intro q
    rcases q with q | q
    · exact g1 (Or.inl q)
    · omega
  exact W.bald (v := v) E.1 E.2.1 h1 h2 h3 hin' (by rw [h6 _ hlt, g2, hv]) rfl rfl (pg_at hpg hsk) (kk p e s m args below meth c H locs ls E C0 R hq hl)
theorem X.lgets {C n d : String} {K : Value → Prop} (hpg : PgOk M pg) (hsk : seek pg pc = (pc, .getstatic idx, 3, v0, t0) :: r0) (hZ : ∀ s, Cx G s → ∃ v, K v ∧ va_Z C n d v (fun q => G.2.2.1.size ≤ q) s G.2.2.1) (hlink : Cond.fieldLink M.1.cls idx C n d ∈ lw_all) (kk : ∀ v, K v → X l G M rm TG cs ss (pc + 3) L (v :: st) h z) : X l G M rm TG cs ss pc L st h z := by
  intro p e s m args below meth c H locs ls E C0 R hq hl
  obtain ⟨v, hv, cf, kf, fi, f, a, cell, h1, h2, h3, h4, h5, h6, h7, h8⟩ := hZ s C0
  have hlt : a < G.2.2.1.size := (Array.getElem?_eq_some_iff.mp h5).1
  exact W.gets E.1 E.2.1 E.2.2.2.2.2.1 (E.2.2.2.2.2.2.1 _ hlink) h1 h2 h3 h4 (by rw [R.2.2.1 a hlt]; exact h5) (fun e => by rw [e] at h6; cases h6) h7 rfl (pg_at hpg hsk) (kk v hv p e s m args below meth c H locs ls E C0 R hq hl)
theorem X.nret {mc ms : Nat} {P : Option Value → AH → Nat → Prop} {x : Int32} {ty : FieldType} (h1 : cs ≤ mc) (h2 : ss ≤ ms) (hpg : PgOk M pg) (hsk : seek pg pc = (pc, .ireturn, 1, v0, t0) :: r0) (hr : M.2.2.2 = some ty) (hn : narrow ty (.int x) = .int x) (hP : P (some (.int x)) h z) : X l G M rm (TGm G P mc ms) cs ss pc L [.int x] h z := by
  refine X.widen h1 h2 ?_
  intro p e s m args below meth c H locs ls E C R hq hl
  exact W.zret (hlocks := E.2.2.2.1) E.1 E.2.1 (E.2.2.1.trans hr) hn (fun t ht hW => ⟨_, h, z, rfl, hP, by rw [ht]; exact R⟩) hq (pg_at hpg hsk)
theorem X.ldcL {i : Nat} (hi : i < 14) (hM : M.1.cls = RX4) (hpg : PgOk M pg) (hsk : seek pg pc = (pc, .ldc (litT i).1, 2, v0, t0) :: r0) (kk : X l G M rm TG cs ss (pc + 2) L (.ref (G.2.2.2 (1 + i)) :: st) h z) : X l G M rm TG cs ss pc L st h z := by
  intro p e s m args below meth c H locs ls E C0 R hq hl
  obtain ⟨s0, hW, hE⟩ := C0.E
  have hR := vk_R.warm hW (hE.2.1 i hi)
  have hown : s.vm.findClass RX4 = some m.cls := by rw [← hM]; exact E.2.2.2.2.2.1
  exact va_ldcS E.1 E.2.1 hown hR (pg_at hpg hsk) (kk p e s m args below meth c H locs ls E C0 R hq hl)
end XL
/-- a call upon a literal -/
theorem ceL {l : Launch} {G : GG} {M M' : Mth} {idx n k d mc ms : Nat} {sp : GG → CSpec} (c : CtS M' k sp) (hmo : Mono (sp G)) (hk : CkV M.1.cls idx RJ4 M' n) (hsp : ∀ as h Q, as.length = n + 1 → sp G as h Q → ∃ i as', i < 14 ∧ as = .ref (G.2.2.2 (1 + i)) :: as') (hd : k + 1 ≤ d) (hm : Nat.ble M'.2.2.1 21 = true) : CallOk l G M (rmK d mc ms) (idx, false, n + 1, sp G) ∧ Mono (sp G) := by
  have hm := Nat.le_of_ble_eq_true hm
  refine ⟨fun TG cs ss pc z L as rest h hcs hdec hn hcat hs => ?_, hmo⟩
  have ct := c l G (d - 1) (by omega) as h z _ hs
  obtain ⟨i, As, hi, rfl⟩ := hsp as h _ hn hs
  refine X.run (mc' := 0) (ms' := 0) (rest := rest) (P := fun v h' z' => X l G M (rmK d mc ms) TG cs ss (pc + 3) L (v.toList ++ rest) h' z ∧ z' = z) ?_ (fun v h' z' hQ => ?_)
  · intro p e s m args below meth c H locs ls E C0 R hls
    obtain ⟨⟨hl, hi2, hcode, hd2⟩, hin, hse⟩ := hk
    obtain ⟨hx, hb0, hr0, hlk, hml, hown, hts, hnm⟩ := E
    obtain ⟨cell, r1, r2, r3, -⟩ := (C0.lit hi).1.kept R.old
    have hp : PreV s H RJ4 (G.2.2.2 (1 + i)) (va_Pc (.ref (G.2.2.2 (1 + i)) :: As) (fun U => Cx G U ∧ Rp G h z U.heap)) As := ⟨Ct.blind, ⟨cell, r1, r2, r3⟩, fun U hU hW => ⟨rfl, C0.warm hW, by rw [hU]; exact R⟩⟩
    rcases hl with hl | ⟨host, hl⟩
    · exact ⟨_, va_runV (As := As) (rest := rest) ⟨hx, hb0, hml, hown, hts⟩ ct ⟨callB_of n hts (lw_meth hcode) rfl rfl rfl (hts _ hi2) (hts _ hl) hd2 ⟨by show d - 1 + 1 ≤ d; omega, by show 8 + (M'.2.2.1 + 11) + 40 * (d - 1) ≤ 40 * d; omega⟩, hts _ hin, hts _ hse⟩ hp rfl (by simpa using hn) hls (by simp) (lv_room (Nat.le_trans (catS_le rest) hcat)) hdec hcs⟩
    · exact ⟨_, va_runVN (As := As) (rest := rest) ⟨hx, hb0, hml, hown, hts⟩ ct ⟨va_cnB n hts (lw_meth hcode) rfl rfl rfl (C0.nestM hl) (hts _ hi2) hd2 ⟨by show d - 1 + 1 ≤ d; omega, by show 8 + (M'.2.2.1 + 11) + 40 * (d - 1) ≤ 40 * d; omega⟩, hts _ hin, hts _ hse⟩ hp rfl (by simpa using hn) hls (by simp) (lv_room (Nat.le_trans (catS_le rest) hcat)) hdec hcs⟩
  · obtain ⟨hQ, rfl⟩ := hQ
    exact hQ
def spLit (f : Nat → Value) : GG → CSpec := fun G as h Q => match as with
  | [.ref b] => ∃ i, i < 14 ∧ b = G.2.2.2 (1 + i) ∧ Q (some (f i)) h
  | _ => False
theorem moLit {f : Nat → Value} {G : GG} : Mono (spLit f G) := by
  intro as h Q Q' hQ hs
  unfold spLit at hs ⊢
  split at hs
  · obtain ⟨i, h1, h2, h3⟩ := hs
    exact ⟨i, h1, h2, hQ _ _ h3⟩
  · exact hs.elim
theorem rcLit {f : Nat → Value} {G : GG} : ∀ as h Q, as.length = 0 + 1 → spLit f G as h Q → ∃ i as', i < 14 ∧ as = .ref (G.2.2.2 (1 + i)) :: as' := by
  intro as h Q _ hs
  unfold spLit at hs
  split at hs
  · obtain ⟨i, h1, h2, h3⟩ := hs
    exact ⟨i, [], h1, by rw [h2]⟩
  · exact hs.elim
theorem c_coder : CtS mJ4_coder 0 (spLit (fun _ => .int 0)) := by
  intro l G d hd as h z Q hs
  match as, hs with
  | [.ref b], ⟨i, hi, hb, hs⟩ =>
    subst hb
    refine Ct.of rfl (Nat.le_of_ble_eq_true rfl) rfl ?_
    refine X.gets (idx := 38) pkJ4_coder rfl stc_compact q412 ?_
    refine X.w wkJ4_coder fnil [7] 2 rfl ?_
    refine And.intro (fun b3 => absurd (show (1 : Int32) = 0 from b3) (by decide)) (fun b3 => ?_)
    refine X.lget (idx := 15) (fun s C => (C.lit hi).2.1) q1500 pkJ4_coder rfl rfl ?_
    refine X.w wkJ4_coder fnil [14] 1 rfl ?_
    exact X.nret (Nat.le_refl _) (Nat.le_refl _) pkJ4_coder rfl rfl (by decide) ⟨hs, rfl⟩
theorem c_isLatin1 : CtS mJ4_isLatin1 0 (spLit (fun _ => .int 1)) := by
  intro l G d hd as h z Q hs
  match as, hs with
  | [.ref b], ⟨i, hi, hb, hs⟩ =>
    subst hb
    refine Ct.of rfl (Nat.le_of_ble_eq_true rfl) rfl ?_
    refine X.gets (idx := 38) pkJ4_isLatin1 rfl stc_compact q412 ?_
    refine X.w wkJ4_isLatin1 fnil [7] 2 rfl ?_
    refine And.intro (fun b3 => absurd (show (1 : Int32) = 0 from b3) (by decide)) (fun b3 => ?_)
    refine X.lget (idx := 15) (fun s C => (C.lit hi).2.1) q1500 pkJ4_isLatin1 rfl rfl ?_
    refine X.w wkJ4_isLatin1 fnil [] 4 rfl ?_
    refine And.intro (fun b3 => absurd rfl (show ¬ (0 : Int32) = 0 from b3)) (fun b3 => ?_)
    exact And.intro (Or.inr rfl) (And.intro hs rfl)
theorem c_slen : CtS mJ4_length 1 (spLit (fun i => .int (nI (litL.getD i 0)))) := by
  intro l G d hd as h z Q hs
  match as, hs with
  | [.ref b], ⟨i, hi, hb, hs⟩ =>
    subst hb
    refine Ct.of rfl (Nat.le_of_ble_eq_true rfl) rfl ?_
    refine X.w wkJ4_length fnil [1] 1 rfl ?_
    refine X.lget (idx := 9) (fun s C => (C.lit hi).2.2.1) q1499 pkJ4_length rfl rfl ?_
    refine X.llen (fun s C => (C.lit hi).2.2.2) pkJ4_length rfl ?_
    refine X.w wkJ4_length (fcons (ceL c_coder moLit ckJ4_335 rcLit (by omega) rfl) fnil) [] 4 rfl ?_
    refine Exists.intro i (And.intro hi (And.intro rfl ?_))
    refine And.intro ?_ rfl
    have e : nI (litL.getD i 0) >>> ((0 : Int32) &&& 31) = nI (litL.getD i 0) := by
      have : ∀ i, i < 14 → nI (litL.getD i 0) >>> ((0 : Int32) &&& 31) = nI (litL.getD i 0) := by decide
      exact this i hi
    show Q (some (.int (nI (litL.getD i 0) >>> ((0 : Int32) &&& 31)))) h
    rw [e]
    exact hs
def spPreR : GG → CSpec := fun _ as h Q => match as with
  | [.int i, .int n, .ref _] => (0 ≤ i ∧ ¬ n ≤ i) ∧ Q (some (.int i)) h
  | _ => False
theorem moPreR {G : GG} : Mono (spPreR G) := by
  intro as h Q Q' hQ hs
  unfold spPreR at hs ⊢
  split at hs
  · exact ⟨hs.1, hQ _ _ hs.2⟩
  · exact hs.elim
theorem c_preR : CtS mJ6_checkIndex 1 spPreR := by
  intro l G d hd as h z Q hs
  match as, hs with
  | [.int i, .int n, .ref _], hs =>
    obtain ⟨⟨h1, h2⟩, hs⟩ := hs
    refine Ct.of rfl (Nat.le_of_ble_eq_true rfl) rfl ?_
    refine X.w wkJ6_checkIndex fnil [] 10 rfl ?_
    refine And.intro (fun b1 => ?_) (fun b1 => ?_)
    · simp only [cP, cN, bI_0, Bool.not_eq_false, lt_nle, Decidable.not_not] at b1
      exact absurd h1 b1
    · simp only [cP, cN, bI_0, Bool.not_eq_false, lt_nle, Decidable.not_not] at b1
      refine And.intro (fun b6 => ?_) (fun b6 => ?_)
      · simp only [cP, cN, bI_0, Bool.not_eq_false, lt_nle, Decidable.not_not] at b6
        exact And.intro hs rfl
      · simp only [cP, cN, bI_0, Bool.not_eq_false, lt_nle, Decidable.not_not] at b6
        exact absurd b6 h2
def spCk2 : GG → CSpec := fun _ as h Q => match as with
  | [.int i, .int n] => (0 ≤ i ∧ ¬ n ≤ i) ∧ Q none h
  | _ => False
theorem moCk2 {G : GG} : Mono (spCk2 G) := by
  intro as h Q Q' hQ hs
  unfold spCk2 at hs ⊢
  split at hs
  · exact ⟨hs.1, hQ _ _ hs.2⟩
  · exact hs.elim
theorem c_ck2 : CtS mJ4_checkIndex 2 spCk2 := by
  intro l G d hd as h z Q hs
  match as, hs with
  | [.int i, .int n], hs =>
    obtain ⟨h1, hs⟩ := hs
    refine Ct.of rfl (Nat.le_of_ble_eq_true rfl) rfl ?_
    refine X.w wkJ4_checkIndex fnil [2] 2 rfl ?_
    refine X.lgets (idx := 1053) pkJ4_checkIndex rfl (fun s C => stc_sioobe C) q428 (fun v hv => ?_)
    rcases hv with rfl | ⟨a, rfl⟩
    · refine X.w wkJ4_checkIndex (fcons (ceS c_pre moPre ckJ4_1059 (by omega) rfl) fnil) [] 4 rfl ?_
      refine And.intro h1 ?_
      exact And.intro hs rfl
    · refine X.w wkJ4_checkIndex (fcons (ceS c_preR moPreR ckJ4_1059 (by omega) rfl) fnil) [] 4 rfl ?_
      refine And.intro h1 ?_
      exact And.intro hs rfl
def litC (i k : Nat) : Int32 := (litB.getD i []).getD k 0
theorem litC_ok : ∀ i, i < 14 → ∀ k, k < litL.getD i 0 → ((((litB.getD i []).getD k 0) &&& 255).toUInt32 % 65536).toInt32 = litC i k ∧ narrow .char (.int (litC i k)) = .int (litC i k) := by decide
def spLatC : GG → CSpec := fun G as h Q => match as with
  | [.ref b, .int x] => ∃ i k, i < 14 ∧ b = G.2.2.2 (20 + i) ∧ x = nI k ∧ k < litL.getD i 0 ∧ Q (some (.int (litC i k))) h
  | _ => False
theorem moLatC {G : GG} : Mono (spLatC G) := by
  intro as h Q Q' hQ hs
  unfold spLatC at hs ⊢
  split at hs
  · obtain ⟨i, k, h1, h2, h3, h4, h5⟩ := hs
    exact ⟨i, k, h1, h2, h3, h4, hQ _ _ h5⟩
  · exact hs.elim
theorem litL_lt : ∀ i, i < 14 → litL.getD i 0 < 7 := by decide
theorem c_latC : CtS mJ5_charAt 3 spLatC := by
  intro l G d hd as h z Q hs
  match as, hs with
  | [.ref b, .int x], ⟨i, k, hi, hb, hx, hk, hs⟩ =>
    subst hb
    subst hx
    have h7 := litL_lt i hi
    refine Ct.of rfl (Nat.le_of_ble_eq_true rfl) rfl ?_
    refine X.w wkJ5_charAt fnil [2] 2 rfl ?_
    refine X.llen (fun s C => (C.lit hi).2.2.2) pkJ5_charAt rfl ?_
    refine X.w wkJ5_charAt (fcons (ceS c_ck2 moCk2 ckJ5_9 (by omega) rfl) fnil) [8] 4 rfl ?_
    refine And.intro (And.intro (nI_le (a := 0) (Nat.zero_le _) (by omega)) (nI_ge hk (by omega))) ?_
    refine X.lbal (fun s C => (C.lit hi).2.2.2) (ixN hk (by omega)) rfl pkJ5_charAt rfl ?_
    refine X.w wkJ5_charAt fnil [14] 4 rfl ?_
    obtain ⟨e1, e2⟩ := litC_ok i hi k hk
    have key : X l G mJ5_charAt (rmK d 0 0) (TGm G (fun v h' z' => Q v h' ∧ z' = z) 0 0) 0 0 14 [(0, .ref (G.2.2.2 (20 + i))), (1, .int (nI k))] [.int (litC i k)] h z := X.nret (Nat.le_refl _) (Nat.le_refl _) pkJ5_charAt rfl rfl e2 ⟨hs, rfl⟩
    rw [← e1] at key
    exact key
def spChA : GG → CSpec := fun G as h Q => match as with
  | [.ref b, .int x] => ∃ i k, i < 14 ∧ b = G.2.2.2 (1 + i) ∧ x = nI k ∧ k < litL.getD i 0 ∧ Q (some (.int (litC i k))) h
  | _ => False
theorem moChA {G : GG} : Mono (spChA G) := by
  intro as h Q Q' hQ hs
  unfold spChA at hs ⊢
  split at hs
  · obtain ⟨i, k, h1, h2, h3, h4, h5⟩ := hs
    exact ⟨i, k, h1, h2, h3, h4, hQ _ _ h5⟩
  · exact hs.elim
theorem rcChA {G : GG} : ∀ as h Q, as.length = 1 + 1 → spChA G as h Q → ∃ i as', i < 14 ∧ as = .ref (G.2.2.2 (1 + i)) :: as' := by
  intro as h Q _ hs
  unfold spChA at hs
  split at hs
  · obtain ⟨i, k, h1, h2, h3⟩ := hs
    exact ⟨i, _, h1, by rw [h2]⟩
  · exact hs.elim
theorem c_charAt : CtS mJ4_charAt 4 spChA := by
  intro l G d hd as h z Q hs
  match as, hs with
  | [.ref b, .int x], ⟨i, k, hi, hb, hx, hk, hs⟩ =>
    subst hb
    subst hx
    refine Ct.of rfl (Nat.le_of_ble_eq_true rfl) rfl ?_
    refine X.w wkJ4_charAt (fcons (ceL c_isLatin1 moLit ckJ4_492 rcLit (by omega) rfl) fnil) [8] 4 rfl ?_
    refine Exists.intro i (And.intro hi (And.intro rfl ?_))
    refine And.intro (fun b3 => absurd (show (1 : Int32) = 0 from b3) (by decide)) (fun b3 => ?_)
    refine X.lget (idx := 9) (fun s C => (C.lit hi).2.2.1) q1499 pkJ4_charAt rfl rfl ?_
    refine X.w wkJ4_charAt (fcons (ceS c_latC moLatC ckJ4_495 (by omega) rfl) fnil) [15] 2 rfl ?_
    refine Exists.intro i (Exists.intro k (And.intro hi (And.intro rfl (And.intro rfl (And.intro hk ?_)))))
    exact X.nret (Nat.le_refl _) (Nat.le_refl _) pkJ4_charAt rfl rfl (litC_ok i hi k hk).2 ⟨hs, rfl⟩
