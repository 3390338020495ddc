set_option maxRecDepth 100000
/-! the model takes a text -/
theorem RtQ.ok {r : PT} {S S' : SS} {v : Int32} (h : RtQ r S v S') (hv : ¬ v = -1) : ∃ ls, r = .inr ls ∧ RtQ (.inr ls) S v S' := by
  cases r with
  | inl e => exact absurd h.2.1 hv
  | inr q => exact ⟨q, rfl, h⟩
theorem RtQ.no {r : PT} {S S' : SS} {v : Int32} (h : RtQ r S v S') (hv : v = -1) : ∃ e, r = .inl e ∧ RtQ (.inl e) S v S' := by
  cases r with
  | inl e => exact ⟨e, rfl, h⟩
  | inr q =>
    have h1 := h.2.1
    have h2 := h.2.2.1
    rw [hv] at h1
    exact absurd (nI_pos' (n := q.length) (by omega)) (by rw [← h1]; decide)
def fx (j : Nat) : Bool := mem1 [0, 20, 21, 22, 23, 24, 26, 32, 33, 35, 36, 37, 38, 39] j
theorem fx_fa {j : Nat} (h : fx j = false) : fa j = false := mem1_sub (os := [21, 22, 23, 24, 32, 33, 35, 36, 37]) (ps := [0, 20, 21, 22, 23, 24, 26, 32, 33, 35, 36, 37, 38, 39]) (by decide) h
theorem fx_ne {j k : Nat} (h : fx j = false) (hk : fx k = true) : j ≠ k := fun e => by rw [e, hk] at h; exact nomatch h
def txtQ (r : PT) (S : SS) (v : Int32) (S' : SS) : Prop := (∀ o, o ≠ 0 → o < 10 ∨ 15 < o → S' o = S o) ∧ (∀ j, fx j = false → S' 0 j = S 0 j) ∧ S' 0 20 = 0 ∧ match r with
  | .inl e => v = -1 ∧ S' 0 38 = e.1 ∧ S' 0 39 = nI e.2 ∧ S' 0 26 = S 0 26 ∧ (∀ j, j < 400 → S' 13 j = S 13 j ∧ S' 14 j = S 14 j) ∧ ∀ j, j < 16 → S' 10 j = S 10 j ∧ S' 11 j = S 11 j ∧ S' 12 j = S 12 j
  | .inr ls => v = nI ls.length ∧ S' 0 38 = 0 ∧ S' 0 39 = -1 ∧ LawR ls S'
def tx0 (S : SS) : SS := up2 (up2 (up2 (up2 (up2 (tl S) 0 38 0) 0 39 (-1)) 0 21 0) 0 32 0) 0 33 0
theorem k_text : CtS mX3_text 10 (mW0 (fun (a : Nat) S => RdO S a) (fun (a : Nat) S v S' => txtQ (pTxt (S 8) a (a + 1) [] 0) S v S')) := by
  intro l G d hd as h z Q hs
  match as, hs with
  | [.ref b], hs =>
    obtain ⟨S, a, hm, hp, hs⟩ := hs
    replace hp : RdO S a := hp
    replace hs : ∀ v S' h', (txtQ (pTxt (S 8) a (a + 1) [] 0) S v S') → IsMod G b S' h' → FrM b h h' → Q (some (.int v)) h' := hs
    have hf : FrM b h h := FrM.rf
    refine Ct.of rfl (Nat.le_of_ble_eq_true rfl) rfl ?_
    have hn4 := hp.2.1
    have fin : ∀ (ls : List Line9) (mm : Nat) (S4 S5 S6 : SS) (v : Int32) (h1 : AH), pTxt (S 8) a (a + 1) [] 0 = .inr ls → ls.length ≤ 16 → mm ≤ 400 → v = nI ls.length → RFt (tx0 S) S4 → (∀ (i : Nat) (q : Line9), ls[i]? = some q → DLine S4 mm i q) → Chg [10, 11, 12] (up2 S4 0 20 0) S5 → (∀ j, j < ls.length → S5 10 j = S4 10 (16 + j) ∧ S5 11 j = S4 11 (16 + j) ∧ S5 12 j = S4 12 (16 + j)) → Chg [13, 14] S5 S6 → (∀ j, j < mm → S6 13 j = S5 13 (400 + j) ∧ S6 14 j = S5 14 (400 + j)) → IsMod G b (up2 S6 0 26 v) h1 → FrM b h h1 → Q (some (.int v)) h1 := by
      intro ls mm S4 S5 S6 v h1 hr hl16 hm4 hv hR hD hc1 hl hc2 hcd hm hf
      refine hs v _ h1 ?_ hm hf
      rw [hr]
      have z0 : ∀ j, j ≠ 26 → j ≠ 20 → up2 S6 0 26 v 0 j = S4 0 j := by
        intro j h26 h20
        rw [up2_ap, if_neg (by omega), hc2 0 rfl, hc1 0 rfl, up2_ap, if_neg (by omega)]
      refine ⟨fun o h0 h1 => ?_, fun j hj => ?_, ?_, hv, ?_, ?_, ?_⟩
      · rw [up2_n h0, hc2 o (by cases hq : mem1 [13, 14] o with | false => rfl | true => (unfold mem1 at hq; simp [mem1] at hq; omega)), hc1 o (by cases hq : mem1 [10, 11, 12] o with | false => rfl | true => (simp [mem1] at hq; omega)), up2_n h0, hR.1 o h0 h1]
        unfold tx0 tl
        rw [up2_n h0, up2_n h0, up2_n h0, up2_n h0, up2_n h0, up2_n h0]
      · rw [z0 j (fx_ne hj rfl) (fx_ne hj rfl), hR.2.1 j (fx_fa hj)]
        unfold tx0 tl
        rw [up2_ap, if_neg (fun q => fx_ne hj rfl q.2), up2_ap, if_neg (fun q => fx_ne hj rfl q.2), up2_ap, if_neg (fun q => fx_ne hj rfl q.2), up2_ap, if_neg (fun q => fx_ne hj rfl q.2), up2_ap, if_neg (fun q => fx_ne hj rfl q.2), up2_ap, if_neg (fun q => fx_ne hj rfl q.2)]
      · rw [up2_ap, if_neg (by omega), hc2 0 rfl, hc1 0 rfl, up2_ap, if_pos ⟨rfl, rfl⟩]
      · rw [z0 38 (by decide) (by decide), hR.2.1 38 rfl]; rfl
      · rw [z0 39 (by decide) (by decide), hR.2.1 39 rfl]; rfl
      · refine ⟨by rw [up2_ap, if_pos ⟨rfl, rfl⟩]; exact hv, hl16, fun i q hq => ?_⟩
        have hil : i < ls.length := (List.getElem?_eq_some_iff.mp hq).1
        obtain ⟨p1, p2, p3, e1, e2, e3, e4, e5, e6, e7, e9, e8⟩ := hD i q hq
        have hx := hl i hil
        have cp : ∀ {x : Nat} {cc : Code9}, CodeAt S4 (400 + x) cc → x + cc.length ≤ mm → CodeAt (up2 S6 0 26 v) x cc := by
          intro x cc hC hlx j o w hj
          have hjl : j < cc.length := (List.getElem?_eq_some_iff.mp hj).1
          have h9 := hcd (x + j) (by omega)
          have h8 := hC j o w hj
          rw [show 400 + x + j = 400 + (x + j) from by omega] at h8
          rw [up2_n (by decide), up2_n (by decide), h9.1, h9.2, hc1 13 rfl, hc1 14 rfl]
          exact h8
        refine ⟨p1, p2, p3, ?_, ?_, ?_, e4, by omega, cp e6 (by omega), e7, ?_⟩
        · rw [up2_n (by decide), hc2 11 rfl, hx.2.1]; exact e1
        · rw [up2_n (by decide), hc2 10 rfl, hx.1]; exact e2
        · rw [up2_n (by decide), hc2 12 rfl, hx.2.2]; exact e3
        · obtain ⟨g, w⟩ := q
          cases w with
          | none => exact e8
          | some w =>
            dsimp only at e8 ⊢
            exact ⟨e8.1, cp e8.2.1 (by omega), e8.2.2⟩
    have loop2 : ∀ (ls : List Line9) (mm : Nat) (S4 S5 : SS) (v : Int32), pTxt (S 8) a (a + 1) [] 0 = .inr ls → ls.length ≤ 16 → mm ≤ 400 → v = nI ls.length → S5 0 32 = nI mm → RFt (tx0 S) S4 → (∀ (i : Nat) (q : Line9), ls[i]? = some q → DLine S4 mm i q) → Chg [10, 11, 12] (up2 S4 0 20 0) S5 → (∀ j, j < ls.length → S5 10 j = S4 10 (16 + j) ∧ S5 11 j = S4 11 (16 + j) ∧ S5 12 j = S4 12 (16 + j)) → ∀ (n c : Nat) (i : Int32) (S6 : SS) (h1 : AH), c + n = mm → i = nI c → Chg [13, 14] S5 S6 → (∀ j, 400 ≤ j → S6 13 j = S5 13 j ∧ S6 14 j = S5 14 j) → (∀ j, j < c → S6 13 j = S5 13 (400 + j) ∧ S6 14 j = S5 14 (400 + j)) → IsMod G b S6 h1 → FrM b h h1 → X l G mX3_text (rmK d 0 0) (TGm G (fun v h' z' => Q v h' ∧ z' = z) 0 0) 0 0 127 [(0, .ref b), (1, .int v), (2, .int i)] [] h1 z := by
      intro ls mm S4 S5 v hr hl16 hm4 hv h32 hR hD hc1 hl n
      induction n using Nat.strongRecOn with
      | _ n ih =>
      intro c i S6 h1 hc hi hc2 hhi hcd hm hf
      subst hi
      have e32 : S6 0 32 = nI mm := by rw [hc2 0 rfl]; exact h32
      refine X.w wkX3_text (fcons (ceV k_readText mmW0 ckX3_243 rfl mrW0 (by omega) rfl) (fcons (ceV k_reads mmV0 ckX3_203 rfl mrV0 (by omega) rfl) fnil)) [127] 28 rfl ?_
      refine gF (by first | assumption | exact hm.obj | exact hm.arr _ rfl) ?_
      refine And.intro (fun b132 => ?_) (fun b132 => ?_)
      · simp only [cP, cN, bI_0, Bool.not_eq_false, lt_nle, Decidable.not_not] at b132
        have hc9 : mm ≤ c := (le64 (by omega) (by omega)).mp (e32 ▸ b132)
        obtain rfl : c = mm := by omega
        refine pF0 (okV_W rfl) (by first | assumption | exact hm.obj | exact hm.arr _ rfl) (Nat.le_of_ble_eq_true rfl) (by first | exact hm.N | exact hm.No _) ?_
        intro h175 e175
        have hm := hm.u0 e175 rfl; have hf := hf.u0 e175
        exact And.intro (fin ls c S4 S5 S6 v _ hr hl16 hm4 hv hR hD hc1 hl hc2 hcd hm hf) rfl
      · simp only [cP, cN, bI_0, Bool.not_eq_false, lt_nle, Decidable.not_not] at b132
        have hc9 : c < mm := nle64 (k := mm) (e32 ▸ b132) (by omega) (by omega)
        refine gF (by first | assumption | exact hm.obj | exact hm.arr _ rfl) ?_
        refine gF (by first | assumption | exact hm.obj | exact hm.arr _ rfl) ?_
        refine gA (by first | assumption | exact hm.obj | exact hm.arr _ rfl) (by first | exact ixN (by omega) (by decide) | exact ixz (by omega) (by decide) | exact ixa (a := 64) rfl (by omega) (by decide) | exact ixa (a := 128) rfl (by omega) (by decide) | exact ixa (a := 192) rfl (by omega) (by decide) | exact ixa (a := 256) rfl (by omega) (by decide) | exact ixa (a := 262) rfl (by omega) (by decide) | exact ixa (a := 268) rfl (by omega) (by decide) | exact ixa (a := 274) rfl (by omega) (by decide) | exact ixa (a := 348) rfl (by omega) (by decide) | exact ixa (a := 400) rfl (by omega) (by decide)) ?_
        refine sA (by first | assumption | exact hm.obj | exact hm.arr _ rfl) (by first | exact ixN (by omega) (by decide) | exact ixz (by omega) (by decide) | exact ixa (a := 64) rfl (by omega) (by decide) | exact ixa (a := 128) rfl (by omega) (by decide) | exact ixa (a := 192) rfl (by omega) (by decide) | exact ixa (a := 256) rfl (by omega) (by decide) | exact ixa (a := 262) rfl (by omega) (by decide) | exact ixa (a := 268) rfl (by omega) (by decide) | exact ixa (a := 274) rfl (by omega) (by decide) | exact ixa (a := 348) rfl (by omega) (by decide) | exact ixa (a := 400) rfl (by omega) (by decide)) (by first | exact hm.N | exact hm.No _) ?_
        intro h150 e150
        have hm := hm.uA e150 rfl; have hf := hf.uA e150 (by decide)
        refine gF (by first | assumption | exact hm.obj | exact hm.arr _ rfl) ?_
        refine gF (by first | assumption | exact hm.obj | exact hm.arr _ rfl) ?_
        refine gA (by first | assumption | exact hm.obj | exact hm.arr _ rfl) (by first | exact ixN (by omega) (by decide) | exact ixz (by omega) (by decide) | exact ixa (a := 64) rfl (by omega) (by decide) | exact ixa (a := 128) rfl (by omega) (by decide) | exact ixa (a := 192) rfl (by omega) (by decide) | exact ixa (a := 256) rfl (by omega) (by decide) | exact ixa (a := 262) rfl (by omega) (by decide) | exact ixa (a := 268) rfl (by omega) (by decide) | exact ixa (a := 274) rfl (by omega) (by decide) | exact ixa (a := 348) rfl (by omega) (by decide) | exact ixa (a := 400) rfl (by omega) (by decide)) ?_
        refine sA (by first | assumption | exact hm.obj | exact hm.arr _ rfl) (by first | exact ixN (by omega) (by decide) | exact ixz (by omega) (by decide) | exact ixa (a := 64) rfl (by omega) (by decide) | exact ixa (a := 128) rfl (by omega) (by decide) | exact ixa (a := 192) rfl (by omega) (by decide) | exact ixa (a := 256) rfl (by omega) (by decide) | exact ixa (a := 262) rfl (by omega) (by decide) | exact ixa (a := 268) rfl (by omega) (by decide) | exact ixa (a := 274) rfl (by omega) (by decide) | exact ixa (a := 348) rfl (by omega) (by decide) | exact ixa (a := 400) rfl (by omega) (by decide)) (by first | exact hm.N | exact hm.No _) ?_
        intro h166 e166
        have hm := hm.uA e166 rfl; have hf := hf.uA e166 (by decide)
        refine ih (n - 1) (by omega) (c + 1) _ _ _ (by omega) (nI_1 c) ((hc2.up rfl).up rfl) (fun j hj => ?_) (fun j hj => ?_) hm hf
        · rw [up2_n (by decide), up2_ap, if_neg (by omega), up2_ap, if_neg (by omega), up2_n (by decide)]
          exact hhi j hj
        · by_cases e : j = c
          · subst e
            rw [up2_n (by decide), up2_ap, if_pos ⟨rfl, rfl⟩, up2_ap, if_pos ⟨rfl, rfl⟩, up2_n (by decide)]
            exact ⟨(hhi _ (by omega)).1, (hhi _ (by omega)).2⟩
          · rw [up2_n (by decide), up2_ap, if_neg (by omega), up2_ap, if_neg (by omega), up2_n (by decide)]
            exact hcd j (by omega)
    have loop1 : ∀ (ls : List Line9) (mm : Nat) (S4 : SS) (v : Int32), pTxt (S 8) a (a + 1) [] 0 = .inr ls → ls.length ≤ 16 → mm ≤ 400 → v = nI ls.length → S4 0 32 = nI mm → RFt (tx0 S) S4 → (∀ (i : Nat) (q : Line9), ls[i]? = some q → DLine S4 mm i q) → ∀ (n c : Nat) (i : Int32) (S5 : SS) (h1 : AH), c + n = ls.length → i = nI c → Chg [10, 11, 12] (up2 S4 0 20 0) S5 → (∀ j, 16 ≤ j → S5 10 j = S4 10 j ∧ S5 11 j = S4 11 j ∧ S5 12 j = S4 12 j) → (∀ j, j < c → S5 10 j = S4 10 (16 + j) ∧ S5 11 j = S4 11 (16 + j) ∧ S5 12 j = S4 12 (16 + j)) → IsMod G b S5 h1 → FrM b h h1 → X l G mX3_text (rmK d 0 0) (TGm G (fun v h' z' => Q v h' ∧ z' = z) 0 0) 0 0 69 [(0, .ref b), (1, .int v), (2, .int i)] [] h1 z := by
      intro ls mm S4 v hr hl16 hm4 hv h32 hR hD n
      induction n using Nat.strongRecOn with
      | _ n ih =>
      intro c i S5 h1 hc hi hc1 hhi hcd hm hf
      subst hi
      refine X.w wkX3_text (fcons (ceV k_readText mmW0 ckX3_243 rfl mrW0 (by omega) rfl) (fcons (ceV k_reads mmV0 ckX3_203 rfl mrV0 (by omega) rfl) fnil)) [69, 127] 37 rfl ?_
      refine And.intro (fun b71 => ?_) (fun b71 => ?_)
      · simp only [cP, cN, bI_0, Bool.not_eq_false, lt_nle, Decidable.not_not] at b71
        have hc9 : ls.length ≤ c := (le64 (by omega) (by omega)).mp (hv ▸ b71)
        have hce : c = ls.length := by omega
        exact loop2 ls mm S4 S5 v hr hl16 hm4 hv (by rw [hc1 0 rfl]; exact h32) hR hD hc1 (fun j hj => hcd j (by omega)) mm 0 _ _ _ (by omega) rfl Chg.rf (fun _ _ => ⟨rfl, rfl⟩) (fun j hj => absurd hj (Nat.not_lt_zero j)) hm hf
      · simp only [cP, cN, bI_0, Bool.not_eq_false, lt_nle, Decidable.not_not] at b71
        have hc9 : c < ls.length := nle64 (k := ls.length) (hv ▸ b71) (by omega) (by omega)
        refine gF (by first | assumption | exact hm.obj | exact hm.arr _ rfl) ?_
        refine gF (by first | assumption | exact hm.obj | exact hm.arr _ rfl) ?_
        refine gA (by first | assumption | exact hm.obj | exact hm.arr _ rfl) (ixE (j := 16 + c) (by rw [show (16 : Int32) = nI 16 from rfl, nI_add]) (by omega) (by decide)) ?_
        refine sA (by first | assumption | exact hm.obj | exact hm.arr _ rfl) (by first | exact ixN (by omega) (by decide) | exact ixz (by omega) (by decide) | exact ixa (a := 64) rfl (by omega) (by decide) | exact ixa (a := 128) rfl (by omega) (by decide) | exact ixa (a := 192) rfl (by omega) (by decide) | exact ixa (a := 256) rfl (by omega) (by decide) | exact ixa (a := 262) rfl (by omega) (by decide) | exact ixa (a := 268) rfl (by omega) (by decide) | exact ixa (a := 274) rfl (by omega) (by decide) | exact ixa (a := 348) rfl (by omega) (by decide) | exact ixa (a := 400) rfl (by omega) (by decide)) (by first | exact hm.N | exact hm.No _) ?_
        intro h88 e88
        have hm := hm.uA e88 rfl; have hf := hf.uA e88 (by decide)
        refine gF (by first | assumption | exact hm.obj | exact hm.arr _ rfl) ?_
        refine gF (by first | assumption | exact hm.obj | exact hm.arr _ rfl) ?_
        refine gA (by first | assumption | exact hm.obj | exact hm.arr _ rfl) (ixE (j := 16 + c) (by rw [show (16 : Int32) = nI 16 from rfl, nI_add]) (by omega) (by decide)) ?_
        refine sA (by first | assumption | exact hm.obj | exact hm.arr _ rfl) (by first | exact ixN (by omega) (by decide) | exact ixz (by omega) (by decide) | exact ixa (a := 64) rfl (by omega) (by decide) | exact ixa (a := 128) rfl (by omega) (by decide) | exact ixa (a := 192) rfl (by omega) (by decide) | exact ixa (a := 256) rfl (by omega) (by decide) | exact ixa (a := 262) rfl (by omega) (by decide) | exact ixa (a := 268) rfl (by omega) (by decide) | exact ixa (a := 274) rfl (by omega) (by decide) | exact ixa (a := 348) rfl (by omega) (by decide) | exact ixa (a := 400) rfl (by omega) (by decide)) (by first | exact hm.N | exact hm.No _) ?_
        intro h103 e103
        have hm := hm.uA e103 rfl; have hf := hf.uA e103 (by decide)
        refine gF (by first | assumption | exact hm.obj | exact hm.arr _ rfl) ?_
        refine gF (by first | assumption | exact hm.obj | exact hm.arr _ rfl) ?_
        refine gA (by first | assumption | exact hm.obj | exact hm.arr _ rfl) (ixE (j := 16 + c) (by rw [show (16 : Int32) = nI 16 from rfl, nI_add]) (by omega) (by decide)) ?_
        refine sA (by first | assumption | exact hm.obj | exact hm.arr _ rfl) (by first | exact ixN (by omega) (by decide) | exact ixz (by omega) (by decide) | exact ixa (a := 64) rfl (by omega) (by decide) | exact ixa (a := 128) rfl (by omega) (by decide) | exact ixa (a := 192) rfl (by omega) (by decide) | exact ixa (a := 256) rfl (by omega) (by decide) | exact ixa (a := 262) rfl (by omega) (by decide) | exact ixa (a := 268) rfl (by omega) (by decide) | exact ixa (a := 274) rfl (by omega) (by decide) | exact ixa (a := 348) rfl (by omega) (by decide) | exact ixa (a := 400) rfl (by omega) (by decide)) (by first | exact hm.N | exact hm.No _) ?_
        intro h118 e118
        have hm := hm.uA e118 rfl; have hf := hf.uA e118 (by decide)
        refine ih (n - 1) (by omega) (c + 1) _ _ _ (by omega) (nI_1 c) (((hc1.up rfl).up rfl).up rfl) (fun j hj => ?_) (fun j hj => ?_) hm hf
        · rw [up2_n (by decide), up2_n (by decide), up2_ap, if_neg (by omega), up2_n (by decide), up2_ap, if_neg (by omega), up2_n (by decide), up2_ap, if_neg (by omega), up2_n (by decide), up2_n (by decide)]
          exact hhi j hj
        · by_cases e : j = c
          · subst e
            rw [up2_n (by decide), up2_n (by decide), up2_ap, if_pos ⟨rfl, rfl⟩, up2_n (by decide), up2_ap, if_pos ⟨rfl, rfl⟩, up2_n (by decide), up2_ap, if_pos ⟨rfl, rfl⟩, up2_n (by decide), up2_n (by decide)]
            exact hhi _ (by omega)
          · rw [up2_n (by decide), up2_n (by decide), up2_ap, if_neg (by omega), up2_n (by decide), up2_ap, if_neg (by omega), up2_n (by decide), up2_ap, if_neg (by omega), up2_n (by decide), up2_n (by decide)]
            exact hcd j (by omega)
    refine X.w wkX3_text (fcons (ceV k_readText mmW0 ckX3_243 rfl mrW0 (by omega) rfl) (fcons (ceV k_reads mmV0 ckX3_203 rfl mrV0 (by omega) rfl) fnil)) [69] 40 rfl ?_
    refine pF0 (okV_W rfl) (by first | assumption | exact hm.obj | exact hm.arr _ rfl) (Nat.le_of_ble_eq_true rfl) (by first | exact hm.N | exact hm.No _) ?_
    intro h2 e2
    have hm := hm.u0 e2 rfl; have hf := hf.u0 e2
    refine pF0 (okV_W rfl) (by first | assumption | exact hm.obj | exact hm.arr _ rfl) (Nat.le_of_ble_eq_true rfl) (by first | exact hm.N | exact hm.No _) ?_
    intro h7 e7
    have hm := hm.u0 e7 rfl; have hf := hf.u0 e7
    refine pF0 (okV_W rfl) (by first | assumption | exact hm.obj | exact hm.arr _ rfl) (Nat.le_of_ble_eq_true rfl) (by first | exact hm.N | exact hm.No _) ?_
    intro h12 e12
    have hm := hm.u0 e12 rfl; have hf := hf.u0 e12
    refine pF0 (okV_W rfl) (by first | assumption | exact hm.obj | exact hm.arr _ rfl) (Nat.le_of_ble_eq_true rfl) (by first | exact hm.N | exact hm.No _) ?_
    intro h17 e17
    have hm := hm.u0 e17 rfl; have hf := hf.u0 e17
    refine pF0 (okV_W rfl) (by first | assumption | exact hm.obj | exact hm.arr _ rfl) (Nat.le_of_ble_eq_true rfl) (by first | exact hm.N | exact hm.No _) ?_
    intro h22 e22
    have hm := hm.u0 e22 rfl; have hf := hf.u0 e22
    refine pF0 (okV_W rfl) (by first | assumption | exact hm.obj | exact hm.arr _ rfl) (Nat.le_of_ble_eq_true rfl) (by first | exact hm.N | exact hm.No _) ?_
    intro h27 e27
    have hm := hm.u0 e27 rfl; have hf := hf.u0 e27
    refine Exists.intro _ (Exists.intro (0, a) (And.intro hm (And.intro ⟨rfl, Nat.zero_le _, hp⟩ ?_)))
    intro S31 h31 p31 hm hf31
    have hf := hf.tr hf31
    (try dsimp only at p31)
    replace p31 : ∃ f, S31 = setF (tx0 S) 0 f ∧ FO (tx0 S) f ∧ TkF f (S 8) a 0 := p31
    obtain ⟨f31, rfl, hFO, hTk⟩ := p31
    have hp2 : RdO (setF (tx0 S) 0 f31) a := RdO.ft (S := tx0 S) hp (RFr.fo (m := 0) hFO).a.t
    refine Exists.intro _ (Exists.intro (0, a, 0) (And.intro hm (And.intro ⟨⟨⟨RFr.rf, hTk, (hFO 32 (Or.inr (by decide))), CodeAt.nil, Nat.zero_le _, Nat.le_refl 0⟩, hp2⟩, hFO 33 (Or.inr (by decide))⟩ ?_)))
    intro v35 S35 h35 p35 hm hf35
    have hf := hf.tr hf35
    (try dsimp only at p35)
    replace p35 : RtQ (pTxt (S 8) a (a + 1) [] 0) (setF (tx0 S) 0 f31) v35 S35 := p35
    have hR : RFt (tx0 S) S35 := (RFr.fo (m := 0) hFO).a.t.tr p35.1
    refine pF0 (okV_W rfl) (by first | assumption | exact hm.obj | exact hm.arr _ rfl) (Nat.le_of_ble_eq_true rfl) (by first | exact hm.N | exact hm.No _) ?_
    intro h41 e41
    have hm := hm.u0 e41 rfl; have hf := hf.u0 e41
    refine And.intro (fun b46 => ?_) (fun b46 => ?_)
    · simp only [cP, cN, bI_0, Bool.not_eq_false, lt_nle, Decidable.not_not] at b46
      obtain ⟨ls, hr, p35⟩ := p35.ok b46
      obtain ⟨-, hv, hl16, mm, hm4, h32, hD⟩ := p35
      exact loop1 ls mm S35 v35 hr hl16 hm4 hv h32 hR hD ls.length 0 _ _ _ (by omega) rfl Chg.rf (fun _ _ => ⟨rfl, rfl, rfl⟩) (fun j hj => absurd hj (Nat.not_lt_zero j)) hm hf
    · simp only [cP, cN, bI_0, Bool.not_eq_false, lt_nle, Decidable.not_not] at b46
      obtain ⟨e, hr, p35⟩ := p35.no b46
      obtain ⟨-, -, h36, h37⟩ := p35
      refine gF (by first | assumption | exact hm.obj | exact hm.arr _ rfl) ?_
      refine pF0 (okV_W rfl) (by first | assumption | exact hm.obj | exact hm.arr _ rfl) (Nat.le_of_ble_eq_true rfl) (by first | exact hm.N | exact hm.No _) ?_
      intro h54 e54
      have hm := hm.u0 e54 rfl; have hf := hf.u0 e54
      refine gF (by first | assumption | exact hm.obj | exact hm.arr _ rfl) ?_
      refine pF0 (okV_W rfl) (by first | assumption | exact hm.obj | exact hm.arr _ rfl) (Nat.le_of_ble_eq_true rfl) (by first | exact hm.N | exact hm.No _) ?_
      intro h62 e62
      have hm := hm.u0 e62 rfl; have hf := hf.u0 e62
      refine And.intro (hs _ _ _ ?_ hm hf) rfl
      rw [hr]
      refine ⟨fun o h0 h1 => ?_, fun j hj => ?_, rfl, rfl, h36, h37, ?_, fun j hj => ?_, fun j hj => ?_⟩
      · rw [up2_n h0, up2_n h0, up2_n h0, hR.1 o h0 h1]
        unfold tx0 tl
        rw [up2_n h0, up2_n h0, up2_n h0, up2_n h0, up2_n h0, up2_n h0]
      · rw [up2_ap, if_neg (fun q => fx_ne hj rfl q.2), up2_ap, if_neg (fun q => fx_ne hj rfl q.2), up2_ap, if_neg (fun q => fx_ne hj rfl q.2), hR.2.1 j (fx_fa hj)]
        unfold tx0 tl
        rw [up2_ap, if_neg (fun q => fx_ne hj rfl q.2), up2_ap, if_neg (fun q => fx_ne hj rfl q.2), up2_ap, if_neg (fun q => fx_ne hj rfl q.2), up2_ap, if_neg (fun q => fx_ne hj rfl q.2), up2_ap, if_neg (fun q => fx_ne hj rfl q.2), up2_ap, if_neg (fun q => fx_ne hj rfl q.2)]
      · exact hR.2.1 26 rfl
      · exact hR.2.2.1 j hj
      · exact hR.2.2.2 j hj
