set_option maxRecDepth 100000
/-! the model is made -/
def mL : Nat → Nat
  | 1 => 348
  | 2 => 4176
  | 3 => 64
  | 4 => 12
  | 5 => 12
  | 6 => 12
  | 7 => 400
  | 8 => 400
  | 9 => 62
  | 10 => 32
  | 11 => 32
  | 12 => 32
  | 13 => 800
  | 14 => 800
  | 15 => 40
  | 16 => 9
  | 17 => 420
  | 18 => 64
  | 19 => 64
  | 20 => 4096
  | 21 => 12
  | 22 => 1800
  | _ => 0
def MkM (G : GG) (b k : Nat) (fs : List Value) (S : SS) (h0 h : AH) : Prop := G.2.2.1.size ≤ b ∧ h b = some (.inr (3, fs)) ∧ (∀ o, 1 ≤ o → o ≤ k → h (b + o) = some (aI G (mL o) (S o))) ∧ ∀ a, a < b → h a = h0 a
section MK
variable {G : GG} {b k : Nat} {fs : List Value} {S : SS} {h0 h h2 : AH}
theorem MkM.new (w : MkM G b k fs S h0 h) (e : h2 = ahU h (b + (k + 1)) (aI G (mL (k + 1)) (fun _ => 0))) (hS : S (k + 1) = fun _ => 0) : MkM G b (k + 1) fs S h0 h2 := by
  subst e
  refine ⟨w.1, ?_, fun o h1 h3 => ?_, fun a ha => ?_⟩
  · rw [ahU_n (by omega)]; exact w.2.1
  · by_cases eo : o = k + 1
    · subst eo; rw [ahU_s, hS]
    · rw [ahU_n (by omega)]; exact w.2.2.1 o h1 (by omega)
  · rw [ahU_n (by omega)]; exact w.2.2.2 a ha
theorem MkM.put (w : MkM G b k fs S h0 h) {fs' : List Value} (e : h2 = ahU h b (.inr (3, fs'))) : MkM G b k fs' S h0 h2 := by
  subst e
  refine ⟨w.1, ahU_s, fun o h1 h3 => ?_, fun a ha => ?_⟩
  · rw [ahU_n (by omega)]; exact w.2.2.1 o h1 h3
  · rw [ahU_n (by omega)]; exact w.2.2.2 a ha
theorem MkM.upd (w : MkM G b k fs S h0 h) {o j n : Nat} {x : Int32} (h1 : 1 ≤ o) (h3 : o ≤ k) (hn : n = mL o) (e : h2 = ahU h (b + o) (.inl (G.2.1 0, n, .inl (upd (S o) j x)))) : MkM G b k fs (up2 S o j x) h0 h2 := by
  subst e
  subst hn
  refine ⟨w.1, ?_, fun q hq1 hq2 => ?_, fun a ha => ?_⟩
  · rw [ahU_n (by omega)]; exact w.2.1
  · by_cases eo : q = o
    · subst eo
      rw [ahU_s, up2_s]
      rfl
    · rw [ahU_n (by omega), up2_n eo]; exact w.2.2.1 q hq1 hq2
  · rw [ahU_n (by omega)]; exact w.2.2.2 a ha
end MK
def zS : SS := fun _ _ => 0
def dfM : List Value := [.int 0, .null, .null, .int 0, .int 0, .int 0, .int 0, .null, .int 0, .null, .null, .null, .int 0, .int 0, .int 0, .int 0, .int 0, .int 0, .null, .null, .int 0, .int 0, .int 0, .int 0, .int 0, .null, .int 0, .null, .null, .null, .null, .null, .int 0, .int 0, .null, .int 0, .int 0, .int 0, .int 0, .int 0, .null, .null, .null, .null, .null, .null, .int 0, .int 0, .int 0, .null]
/-- the words laid -/
def wrdS : Nat → SS
  | 0 => zS
  | j + 1 => up2 (wrdS j) 9 j (wtab j)
def fld0 (k : Nat) : Int32 := match k with
  | 5 => 6
  | 6 => 6
  | 39 => -1
  | _ => 0
def wtb (j : Nat) : Int32 := if j < 62 then wtab j else 0
def mod0 : SS := fun o => if o = 0 then fld0 else if o = 9 then wtb else fun _ => 0
theorem wrdS_9 : ∀ j i, wrdS j 9 i = if i < j then wtab i else 0
  | 0, i => by rw [if_neg (by omega)]; rfl
  | j + 1, i => by
    rw [wrdS, up2_s]
    by_cases e : i = j
    · subst e; rw [pk_us, if_pos (by omega)]
    · rw [pk_un e, wrdS_9 j i]
      by_cases e2 : i < j
      · rw [if_pos e2, if_pos (by omega)]
      · rw [if_neg e2, if_neg (by omega)]
theorem k_iw {l : Launch} {G : GG} {d b : Nat} {h : AH} {P : Option Value → AH → Nat → Prop} {fs : List Value} (h1 : AH) (w : MkM G b 9 fs zS h h1) (kk : ∀ h2, MkM G b 9 fs (wrdS 62) h h2 → X l G mX3_init (rmK d 22 13687) (TGm G P 22 13687) 9 5486 455 [(0, .ref b)] [.ref (b + 9), .ref b] h2 (b + 10)) : X l G mX3_init (rmK d 22 13687) (TGm G P 22 13687) 9 5486 89 [(0, .ref b)] [.ref (b + 9), .ref b] h1 (b + 10) := by
  replace w : MkM G b 9 fs (wrdS 0) h h1 := w
  refine X.walk wkX3_init fnil RetOk.no ⟨(by show 9 ≤ 22; decide), (by show 5486 ≤ 13687; decide)⟩ [131] 33 rfl ?_
  refine sA (t := 0) (w.2.2.1 9 (by decide) (Nat.le_refl 9)) (ixE (j := 0) rfl (by decide) (by decide)) (show G.2.2.1.size ≤ b + 9 from Nat.le_trans w.1 (Nat.le_add_right b 9)) ?_
  intro h93 e93
  replace w : MkM G b 9 fs (wrdS 1) h h93 := w.upd (o := 9) (by decide) (Nat.le_refl 9) rfl e93
  refine sA (t := 0) (w.2.2.1 9 (by decide) (Nat.le_refl 9)) (ixE (j := 1) rfl (by decide) (by decide)) (show G.2.2.1.size ≤ b + 9 from Nat.le_trans w.1 (Nat.le_add_right b 9)) ?_
  intro h98 e98
  replace w : MkM G b 9 fs (wrdS 2) h h98 := w.upd (o := 9) (by decide) (Nat.le_refl 9) rfl e98
  refine sA (t := 0) (w.2.2.1 9 (by decide) (Nat.le_refl 9)) (ixE (j := 2) rfl (by decide) (by decide)) (show G.2.2.1.size ≤ b + 9 from Nat.le_trans w.1 (Nat.le_add_right b 9)) ?_
  intro h103 e103
  replace w : MkM G b 9 fs (wrdS 3) h h103 := w.upd (o := 9) (by decide) (Nat.le_refl 9) rfl e103
  refine sA (t := 0) (w.2.2.1 9 (by decide) (Nat.le_refl 9)) (ixE (j := 3) rfl (by decide) (by decide)) (show G.2.2.1.size ≤ b + 9 from Nat.le_trans w.1 (Nat.le_add_right b 9)) ?_
  intro h108 e108
  replace w : MkM G b 9 fs (wrdS 4) h h108 := w.upd (o := 9) (by decide) (Nat.le_refl 9) rfl e108
  refine sA (t := 0) (w.2.2.1 9 (by decide) (Nat.le_refl 9)) (ixE (j := 4) rfl (by decide) (by decide)) (show G.2.2.1.size ≤ b + 9 from Nat.le_trans w.1 (Nat.le_add_right b 9)) ?_
  intro h113 e113
  replace w : MkM G b 9 fs (wrdS 5) h h113 := w.upd (o := 9) (by decide) (Nat.le_refl 9) rfl e113
  refine sA (t := 0) (w.2.2.1 9 (by decide) (Nat.le_refl 9)) (ixE (j := 5) rfl (by decide) (by decide)) (show G.2.2.1.size ≤ b + 9 from Nat.le_trans w.1 (Nat.le_add_right b 9)) ?_
  intro h118 e118
  replace w : MkM G b 9 fs (wrdS 6) h h118 := w.upd (o := 9) (by decide) (Nat.le_refl 9) rfl e118
  refine sA (t := 0) (w.2.2.1 9 (by decide) (Nat.le_refl 9)) (ixE (j := 6) rfl (by decide) (by decide)) (show G.2.2.1.size ≤ b + 9 from Nat.le_trans w.1 (Nat.le_add_right b 9)) ?_
  intro h124 e124
  replace w : MkM G b 9 fs (wrdS 7) h h124 := w.upd (o := 9) (by decide) (Nat.le_refl 9) rfl e124
  refine sA (t := 0) (w.2.2.1 9 (by decide) (Nat.le_refl 9)) (ixE (j := 7) rfl (by decide) (by decide)) (show G.2.2.1.size ≤ b + 9 from Nat.le_trans w.1 (Nat.le_add_right b 9)) ?_
  intro h130 e130
  replace w : MkM G b 9 fs (wrdS 8) h h130 := w.upd (o := 9) (by decide) (Nat.le_refl 9) rfl e130
  refine X.walk wkX3_init fnil RetOk.no ⟨(by show 9 ≤ 22; decide), (by show 5486 ≤ 13687; decide)⟩ [179] 33 rfl ?_
  refine sA (t := 0) (w.2.2.1 9 (by decide) (Nat.le_refl 9)) (ixE (j := 8) rfl (by decide) (by decide)) (show G.2.2.1.size ≤ b + 9 from Nat.le_trans w.1 (Nat.le_add_right b 9)) ?_
  intro h136 e136
  replace w : MkM G b 9 fs (wrdS 9) h h136 := w.upd (o := 9) (by decide) (Nat.le_refl 9) rfl e136
  refine sA (t := 0) (w.2.2.1 9 (by decide) (Nat.le_refl 9)) (ixE (j := 9) rfl (by decide) (by decide)) (show G.2.2.1.size ≤ b + 9 from Nat.le_trans w.1 (Nat.le_add_right b 9)) ?_
  intro h142 e142
  replace w : MkM G b 9 fs (wrdS 10) h h142 := w.upd (o := 9) (by decide) (Nat.le_refl 9) rfl e142
  refine sA (t := 0) (w.2.2.1 9 (by decide) (Nat.le_refl 9)) (ixE (j := 10) rfl (by decide) (by decide)) (show G.2.2.1.size ≤ b + 9 from Nat.le_trans w.1 (Nat.le_add_right b 9)) ?_
  intro h148 e148
  replace w : MkM G b 9 fs (wrdS 11) h h148 := w.upd (o := 9) (by decide) (Nat.le_refl 9) rfl e148
  refine sA (t := 0) (w.2.2.1 9 (by decide) (Nat.le_refl 9)) (ixE (j := 11) rfl (by decide) (by decide)) (show G.2.2.1.size ≤ b + 9 from Nat.le_trans w.1 (Nat.le_add_right b 9)) ?_
  intro h154 e154
  replace w : MkM G b 9 fs (wrdS 12) h h154 := w.upd (o := 9) (by decide) (Nat.le_refl 9) rfl e154
  refine sA (t := 0) (w.2.2.1 9 (by decide) (Nat.le_refl 9)) (ixE (j := 12) rfl (by decide) (by decide)) (show G.2.2.1.size ≤ b + 9 from Nat.le_trans w.1 (Nat.le_add_right b 9)) ?_
  intro h160 e160
  replace w : MkM G b 9 fs (wrdS 13) h h160 := w.upd (o := 9) (by decide) (Nat.le_refl 9) rfl e160
  refine sA (t := 0) (w.2.2.1 9 (by decide) (Nat.le_refl 9)) (ixE (j := 13) rfl (by decide) (by decide)) (show G.2.2.1.size ≤ b + 9 from Nat.le_trans w.1 (Nat.le_add_right b 9)) ?_
  intro h166 e166
  replace w : MkM G b 9 fs (wrdS 14) h h166 := w.upd (o := 9) (by decide) (Nat.le_refl 9) rfl e166
  refine sA (t := 0) (w.2.2.1 9 (by decide) (Nat.le_refl 9)) (ixE (j := 14) rfl (by decide) (by decide)) (show G.2.2.1.size ≤ b + 9 from Nat.le_trans w.1 (Nat.le_add_right b 9)) ?_
  intro h172 e172
  replace w : MkM G b 9 fs (wrdS 15) h h172 := w.upd (o := 9) (by decide) (Nat.le_refl 9) rfl e172
  refine sA (t := 0) (w.2.2.1 9 (by decide) (Nat.le_refl 9)) (ixE (j := 15) rfl (by decide) (by decide)) (show G.2.2.1.size ≤ b + 9 from Nat.le_trans w.1 (Nat.le_add_right b 9)) ?_
  intro h178 e178
  replace w : MkM G b 9 fs (wrdS 16) h h178 := w.upd (o := 9) (by decide) (Nat.le_refl 9) rfl e178
  refine X.walk wkX3_init fnil RetOk.no ⟨(by show 9 ≤ 22; decide), (by show 5486 ≤ 13687; decide)⟩ [227] 33 rfl ?_
  refine sA (t := 0) (w.2.2.1 9 (by decide) (Nat.le_refl 9)) (ixE (j := 16) rfl (by decide) (by decide)) (show G.2.2.1.size ≤ b + 9 from Nat.le_trans w.1 (Nat.le_add_right b 9)) ?_
  intro h184 e184
  replace w : MkM G b 9 fs (wrdS 17) h h184 := w.upd (o := 9) (by decide) (Nat.le_refl 9) rfl e184
  refine sA (t := 0) (w.2.2.1 9 (by decide) (Nat.le_refl 9)) (ixE (j := 17) rfl (by decide) (by decide)) (show G.2.2.1.size ≤ b + 9 from Nat.le_trans w.1 (Nat.le_add_right b 9)) ?_
  intro h190 e190
  replace w : MkM G b 9 fs (wrdS 18) h h190 := w.upd (o := 9) (by decide) (Nat.le_refl 9) rfl e190
  refine sA (t := 0) (w.2.2.1 9 (by decide) (Nat.le_refl 9)) (ixE (j := 18) rfl (by decide) (by decide)) (show G.2.2.1.size ≤ b + 9 from Nat.le_trans w.1 (Nat.le_add_right b 9)) ?_
  intro h196 e196
  replace w : MkM G b 9 fs (wrdS 19) h h196 := w.upd (o := 9) (by decide) (Nat.le_refl 9) rfl e196
  refine sA (t := 0) (w.2.2.1 9 (by decide) (Nat.le_refl 9)) (ixE (j := 19) rfl (by decide) (by decide)) (show G.2.2.1.size ≤ b + 9 from Nat.le_trans w.1 (Nat.le_add_right b 9)) ?_
  intro h202 e202
  replace w : MkM G b 9 fs (wrdS 20) h h202 := w.upd (o := 9) (by decide) (Nat.le_refl 9) rfl e202
  refine sA (t := 0) (w.2.2.1 9 (by decide) (Nat.le_refl 9)) (ixE (j := 20) rfl (by decide) (by decide)) (show G.2.2.1.size ≤ b + 9 from Nat.le_trans w.1 (Nat.le_add_right b 9)) ?_
  intro h208 e208
  replace w : MkM G b 9 fs (wrdS 21) h h208 := w.upd (o := 9) (by decide) (Nat.le_refl 9) rfl e208
  refine sA (t := 0) (w.2.2.1 9 (by decide) (Nat.le_refl 9)) (ixE (j := 21) rfl (by decide) (by decide)) (show G.2.2.1.size ≤ b + 9 from Nat.le_trans w.1 (Nat.le_add_right b 9)) ?_
  intro h214 e214
  replace w : MkM G b 9 fs (wrdS 22) h h214 := w.upd (o := 9) (by decide) (Nat.le_refl 9) rfl e214
  refine sA (t := 0) (w.2.2.1 9 (by decide) (Nat.le_refl 9)) (ixE (j := 22) rfl (by decide) (by decide)) (show G.2.2.1.size ≤ b + 9 from Nat.le_trans w.1 (Nat.le_add_right b 9)) ?_
  intro h220 e220
  replace w : MkM G b 9 fs (wrdS 23) h h220 := w.upd (o := 9) (by decide) (Nat.le_refl 9) rfl e220
  refine sA (t := 0) (w.2.2.1 9 (by decide) (Nat.le_refl 9)) (ixE (j := 23) rfl (by decide) (by decide)) (show G.2.2.1.size ≤ b + 9 from Nat.le_trans w.1 (Nat.le_add_right b 9)) ?_
  intro h226 e226
  replace w : MkM G b 9 fs (wrdS 24) h h226 := w.upd (o := 9) (by decide) (Nat.le_refl 9) rfl e226
  refine X.walk wkX3_init fnil RetOk.no ⟨(by show 9 ≤ 22; decide), (by show 5486 ≤ 13687; decide)⟩ [275] 33 rfl ?_
  refine sA (t := 0) (w.2.2.1 9 (by decide) (Nat.le_refl 9)) (ixE (j := 24) rfl (by decide) (by decide)) (show G.2.2.1.size ≤ b + 9 from Nat.le_trans w.1 (Nat.le_add_right b 9)) ?_
  intro h232 e232
  replace w : MkM G b 9 fs (wrdS 25) h h232 := w.upd (o := 9) (by decide) (Nat.le_refl 9) rfl e232
  refine sA (t := 0) (w.2.2.1 9 (by decide) (Nat.le_refl 9)) (ixE (j := 25) rfl (by decide) (by decide)) (show G.2.2.1.size ≤ b + 9 from Nat.le_trans w.1 (Nat.le_add_right b 9)) ?_
  intro h238 e238
  replace w : MkM G b 9 fs (wrdS 26) h h238 := w.upd (o := 9) (by decide) (Nat.le_refl 9) rfl e238
  refine sA (t := 0) (w.2.2.1 9 (by decide) (Nat.le_refl 9)) (ixE (j := 26) rfl (by decide) (by decide)) (show G.2.2.1.size ≤ b + 9 from Nat.le_trans w.1 (Nat.le_add_right b 9)) ?_
  intro h244 e244
  replace w : MkM G b 9 fs (wrdS 27) h h244 := w.upd (o := 9) (by decide) (Nat.le_refl 9) rfl e244
  refine sA (t := 0) (w.2.2.1 9 (by decide) (Nat.le_refl 9)) (ixE (j := 27) rfl (by decide) (by decide)) (show G.2.2.1.size ≤ b + 9 from Nat.le_trans w.1 (Nat.le_add_right b 9)) ?_
  intro h250 e250
  replace w : MkM G b 9 fs (wrdS 28) h h250 := w.upd (o := 9) (by decide) (Nat.le_refl 9) rfl e250
  refine sA (t := 0) (w.2.2.1 9 (by decide) (Nat.le_refl 9)) (ixE (j := 28) rfl (by decide) (by decide)) (show G.2.2.1.size ≤ b + 9 from Nat.le_trans w.1 (Nat.le_add_right b 9)) ?_
  intro h256 e256
  replace w : MkM G b 9 fs (wrdS 29) h h256 := w.upd (o := 9) (by decide) (Nat.le_refl 9) rfl e256
  refine sA (t := 0) (w.2.2.1 9 (by decide) (Nat.le_refl 9)) (ixE (j := 29) rfl (by decide) (by decide)) (show G.2.2.1.size ≤ b + 9 from Nat.le_trans w.1 (Nat.le_add_right b 9)) ?_
  intro h262 e262
  replace w : MkM G b 9 fs (wrdS 30) h h262 := w.upd (o := 9) (by decide) (Nat.le_refl 9) rfl e262
  refine sA (t := 0) (w.2.2.1 9 (by decide) (Nat.le_refl 9)) (ixE (j := 30) rfl (by decide) (by decide)) (show G.2.2.1.size ≤ b + 9 from Nat.le_trans w.1 (Nat.le_add_right b 9)) ?_
  intro h268 e268
  replace w : MkM G b 9 fs (wrdS 31) h h268 := w.upd (o := 9) (by decide) (Nat.le_refl 9) rfl e268
  refine sA (t := 0) (w.2.2.1 9 (by decide) (Nat.le_refl 9)) (ixE (j := 31) rfl (by decide) (by decide)) (show G.2.2.1.size ≤ b + 9 from Nat.le_trans w.1 (Nat.le_add_right b 9)) ?_
  intro h274 e274
  replace w : MkM G b 9 fs (wrdS 32) h h274 := w.upd (o := 9) (by decide) (Nat.le_refl 9) rfl e274
  refine X.walk wkX3_init fnil RetOk.no ⟨(by show 9 ≤ 22; decide), (by show 5486 ≤ 13687; decide)⟩ [323] 33 rfl ?_
  refine sA (t := 0) (w.2.2.1 9 (by decide) (Nat.le_refl 9)) (ixE (j := 32) rfl (by decide) (by decide)) (show G.2.2.1.size ≤ b + 9 from Nat.le_trans w.1 (Nat.le_add_right b 9)) ?_
  intro h280 e280
  replace w : MkM G b 9 fs (wrdS 33) h h280 := w.upd (o := 9) (by decide) (Nat.le_refl 9) rfl e280
  refine sA (t := 0) (w.2.2.1 9 (by decide) (Nat.le_refl 9)) (ixE (j := 33) rfl (by decide) (by decide)) (show G.2.2.1.size ≤ b + 9 from Nat.le_trans w.1 (Nat.le_add_right b 9)) ?_
  intro h286 e286
  replace w : MkM G b 9 fs (wrdS 34) h h286 := w.upd (o := 9) (by decide) (Nat.le_refl 9) rfl e286
  refine sA (t := 0) (w.2.2.1 9 (by decide) (Nat.le_refl 9)) (ixE (j := 34) rfl (by decide) (by decide)) (show G.2.2.1.size ≤ b + 9 from Nat.le_trans w.1 (Nat.le_add_right b 9)) ?_
  intro h292 e292
  replace w : MkM G b 9 fs (wrdS 35) h h292 := w.upd (o := 9) (by decide) (Nat.le_refl 9) rfl e292
  refine sA (t := 0) (w.2.2.1 9 (by decide) (Nat.le_refl 9)) (ixE (j := 35) rfl (by decide) (by decide)) (show G.2.2.1.size ≤ b + 9 from Nat.le_trans w.1 (Nat.le_add_right b 9)) ?_
  intro h298 e298
  replace w : MkM G b 9 fs (wrdS 36) h h298 := w.upd (o := 9) (by decide) (Nat.le_refl 9) rfl e298
  refine sA (t := 0) (w.2.2.1 9 (by decide) (Nat.le_refl 9)) (ixE (j := 36) rfl (by decide) (by decide)) (show G.2.2.1.size ≤ b + 9 from Nat.le_trans w.1 (Nat.le_add_right b 9)) ?_
  intro h304 e304
  replace w : MkM G b 9 fs (wrdS 37) h h304 := w.upd (o := 9) (by decide) (Nat.le_refl 9) rfl e304
  refine sA (t := 0) (w.2.2.1 9 (by decide) (Nat.le_refl 9)) (ixE (j := 37) rfl (by decide) (by decide)) (show G.2.2.1.size ≤ b + 9 from Nat.le_trans w.1 (Nat.le_add_right b 9)) ?_
  intro h310 e310
  replace w : MkM G b 9 fs (wrdS 38) h h310 := w.upd (o := 9) (by decide) (Nat.le_refl 9) rfl e310
  refine sA (t := 0) (w.2.2.1 9 (by decide) (Nat.le_refl 9)) (ixE (j := 38) rfl (by decide) (by decide)) (show G.2.2.1.size ≤ b + 9 from Nat.le_trans w.1 (Nat.le_add_right b 9)) ?_
  intro h316 e316
  replace w : MkM G b 9 fs (wrdS 39) h h316 := w.upd (o := 9) (by decide) (Nat.le_refl 9) rfl e316
  refine sA (t := 0) (w.2.2.1 9 (by decide) (Nat.le_refl 9)) (ixE (j := 39) rfl (by decide) (by decide)) (show G.2.2.1.size ≤ b + 9 from Nat.le_trans w.1 (Nat.le_add_right b 9)) ?_
  intro h322 e322
  replace w : MkM G b 9 fs (wrdS 40) h h322 := w.upd (o := 9) (by decide) (Nat.le_refl 9) rfl e322
  refine X.walk wkX3_init fnil RetOk.no ⟨(by show 9 ≤ 22; decide), (by show 5486 ≤ 13687; decide)⟩ [371] 33 rfl ?_
  refine sA (t := 0) (w.2.2.1 9 (by decide) (Nat.le_refl 9)) (ixE (j := 40) rfl (by decide) (by decide)) (show G.2.2.1.size ≤ b + 9 from Nat.le_trans w.1 (Nat.le_add_right b 9)) ?_
  intro h328 e328
  replace w : MkM G b 9 fs (wrdS 41) h h328 := w.upd (o := 9) (by decide) (Nat.le_refl 9) rfl e328
  refine sA (t := 0) (w.2.2.1 9 (by decide) (Nat.le_refl 9)) (ixE (j := 41) rfl (by decide) (by decide)) (show G.2.2.1.size ≤ b + 9 from Nat.le_trans w.1 (Nat.le_add_right b 9)) ?_
  intro h334 e334
  replace w : MkM G b 9 fs (wrdS 42) h h334 := w.upd (o := 9) (by decide) (Nat.le_refl 9) rfl e334
  refine sA (t := 0) (w.2.2.1 9 (by decide) (Nat.le_refl 9)) (ixE (j := 42) rfl (by decide) (by decide)) (show G.2.2.1.size ≤ b + 9 from Nat.le_trans w.1 (Nat.le_add_right b 9)) ?_
  intro h340 e340
  replace w : MkM G b 9 fs (wrdS 43) h h340 := w.upd (o := 9) (by decide) (Nat.le_refl 9) rfl e340
  refine sA (t := 0) (w.2.2.1 9 (by decide) (Nat.le_refl 9)) (ixE (j := 43) rfl (by decide) (by decide)) (show G.2.2.1.size ≤ b + 9 from Nat.le_trans w.1 (Nat.le_add_right b 9)) ?_
  intro h346 e346
  replace w : MkM G b 9 fs (wrdS 44) h h346 := w.upd (o := 9) (by decide) (Nat.le_refl 9) rfl e346
  refine sA (t := 0) (w.2.2.1 9 (by decide) (Nat.le_refl 9)) (ixE (j := 44) rfl (by decide) (by decide)) (show G.2.2.1.size ≤ b + 9 from Nat.le_trans w.1 (Nat.le_add_right b 9)) ?_
  intro h352 e352
  replace w : MkM G b 9 fs (wrdS 45) h h352 := w.upd (o := 9) (by decide) (Nat.le_refl 9) rfl e352
  refine sA (t := 0) (w.2.2.1 9 (by decide) (Nat.le_refl 9)) (ixE (j := 45) rfl (by decide) (by decide)) (show G.2.2.1.size ≤ b + 9 from Nat.le_trans w.1 (Nat.le_add_right b 9)) ?_
  intro h358 e358
  replace w : MkM G b 9 fs (wrdS 46) h h358 := w.upd (o := 9) (by decide) (Nat.le_refl 9) rfl e358
  refine sA (t := 0) (w.2.2.1 9 (by decide) (Nat.le_refl 9)) (ixE (j := 46) rfl (by decide) (by decide)) (show G.2.2.1.size ≤ b + 9 from Nat.le_trans w.1 (Nat.le_add_right b 9)) ?_
  intro h364 e364
  replace w : MkM G b 9 fs (wrdS 47) h h364 := w.upd (o := 9) (by decide) (Nat.le_refl 9) rfl e364
  refine sA (t := 0) (w.2.2.1 9 (by decide) (Nat.le_refl 9)) (ixE (j := 47) rfl (by decide) (by decide)) (show G.2.2.1.size ≤ b + 9 from Nat.le_trans w.1 (Nat.le_add_right b 9)) ?_
  intro h370 e370
  replace w : MkM G b 9 fs (wrdS 48) h h370 := w.upd (o := 9) (by decide) (Nat.le_refl 9) rfl e370
  refine X.walk wkX3_init fnil RetOk.no ⟨(by show 9 ≤ 22; decide), (by show 5486 ≤ 13687; decide)⟩ [419] 33 rfl ?_
  refine sA (t := 0) (w.2.2.1 9 (by decide) (Nat.le_refl 9)) (ixE (j := 48) rfl (by decide) (by decide)) (show G.2.2.1.size ≤ b + 9 from Nat.le_trans w.1 (Nat.le_add_right b 9)) ?_
  intro h376 e376
  replace w : MkM G b 9 fs (wrdS 49) h h376 := w.upd (o := 9) (by decide) (Nat.le_refl 9) rfl e376
  refine sA (t := 0) (w.2.2.1 9 (by decide) (Nat.le_refl 9)) (ixE (j := 49) rfl (by decide) (by decide)) (show G.2.2.1.size ≤ b + 9 from Nat.le_trans w.1 (Nat.le_add_right b 9)) ?_
  intro h382 e382
  replace w : MkM G b 9 fs (wrdS 50) h h382 := w.upd (o := 9) (by decide) (Nat.le_refl 9) rfl e382
  refine sA (t := 0) (w.2.2.1 9 (by decide) (Nat.le_refl 9)) (ixE (j := 50) rfl (by decide) (by decide)) (show G.2.2.1.size ≤ b + 9 from Nat.le_trans w.1 (Nat.le_add_right b 9)) ?_
  intro h388 e388
  replace w : MkM G b 9 fs (wrdS 51) h h388 := w.upd (o := 9) (by decide) (Nat.le_refl 9) rfl e388
  refine sA (t := 0) (w.2.2.1 9 (by decide) (Nat.le_refl 9)) (ixE (j := 51) rfl (by decide) (by decide)) (show G.2.2.1.size ≤ b + 9 from Nat.le_trans w.1 (Nat.le_add_right b 9)) ?_
  intro h394 e394
  replace w : MkM G b 9 fs (wrdS 52) h h394 := w.upd (o := 9) (by decide) (Nat.le_refl 9) rfl e394
  refine sA (t := 0) (w.2.2.1 9 (by decide) (Nat.le_refl 9)) (ixE (j := 52) rfl (by decide) (by decide)) (show G.2.2.1.size ≤ b + 9 from Nat.le_trans w.1 (Nat.le_add_right b 9)) ?_
  intro h400 e400
  replace w : MkM G b 9 fs (wrdS 53) h h400 := w.upd (o := 9) (by decide) (Nat.le_refl 9) rfl e400
  refine sA (t := 0) (w.2.2.1 9 (by decide) (Nat.le_refl 9)) (ixE (j := 53) rfl (by decide) (by decide)) (show G.2.2.1.size ≤ b + 9 from Nat.le_trans w.1 (Nat.le_add_right b 9)) ?_
  intro h406 e406
  replace w : MkM G b 9 fs (wrdS 54) h h406 := w.upd (o := 9) (by decide) (Nat.le_refl 9) rfl e406
  refine sA (t := 0) (w.2.2.1 9 (by decide) (Nat.le_refl 9)) (ixE (j := 54) rfl (by decide) (by decide)) (show G.2.2.1.size ≤ b + 9 from Nat.le_trans w.1 (Nat.le_add_right b 9)) ?_
  intro h412 e412
  replace w : MkM G b 9 fs (wrdS 55) h h412 := w.upd (o := 9) (by decide) (Nat.le_refl 9) rfl e412
  refine sA (t := 0) (w.2.2.1 9 (by decide) (Nat.le_refl 9)) (ixE (j := 55) rfl (by decide) (by decide)) (show G.2.2.1.size ≤ b + 9 from Nat.le_trans w.1 (Nat.le_add_right b 9)) ?_
  intro h418 e418
  replace w : MkM G b 9 fs (wrdS 56) h h418 := w.upd (o := 9) (by decide) (Nat.le_refl 9) rfl e418
  refine X.walk wkX3_init fnil RetOk.no ⟨(by show 9 ≤ 22; decide), (by show 5486 ≤ 13687; decide)⟩ [455] 25 rfl ?_
  refine sA (t := 0) (w.2.2.1 9 (by decide) (Nat.le_refl 9)) (ixE (j := 56) rfl (by decide) (by decide)) (show G.2.2.1.size ≤ b + 9 from Nat.le_trans w.1 (Nat.le_add_right b 9)) ?_
  intro h424 e424
  replace w : MkM G b 9 fs (wrdS 57) h h424 := w.upd (o := 9) (by decide) (Nat.le_refl 9) rfl e424
  refine sA (t := 0) (w.2.2.1 9 (by decide) (Nat.le_refl 9)) (ixE (j := 57) rfl (by decide) (by decide)) (show G.2.2.1.size ≤ b + 9 from Nat.le_trans w.1 (Nat.le_add_right b 9)) ?_
  intro h430 e430
  replace w : MkM G b 9 fs (wrdS 58) h h430 := w.upd (o := 9) (by decide) (Nat.le_refl 9) rfl e430
  refine sA (t := 0) (w.2.2.1 9 (by decide) (Nat.le_refl 9)) (ixE (j := 58) rfl (by decide) (by decide)) (show G.2.2.1.size ≤ b + 9 from Nat.le_trans w.1 (Nat.le_add_right b 9)) ?_
  intro h436 e436
  replace w : MkM G b 9 fs (wrdS 59) h h436 := w.upd (o := 9) (by decide) (Nat.le_refl 9) rfl e436
  refine sA (t := 0) (w.2.2.1 9 (by decide) (Nat.le_refl 9)) (ixE (j := 59) rfl (by decide) (by decide)) (show G.2.2.1.size ≤ b + 9 from Nat.le_trans w.1 (Nat.le_add_right b 9)) ?_
  intro h442 e442
  replace w : MkM G b 9 fs (wrdS 60) h h442 := w.upd (o := 9) (by decide) (Nat.le_refl 9) rfl e442
  refine sA (t := 0) (w.2.2.1 9 (by decide) (Nat.le_refl 9)) (ixE (j := 60) rfl (by decide) (by decide)) (show G.2.2.1.size ≤ b + 9 from Nat.le_trans w.1 (Nat.le_add_right b 9)) ?_
  intro h448 e448
  replace w : MkM G b 9 fs (wrdS 61) h h448 := w.upd (o := 9) (by decide) (Nat.le_refl 9) rfl e448
  refine sA (t := 0) (w.2.2.1 9 (by decide) (Nat.le_refl 9)) (ixE (j := 61) rfl (by decide) (by decide)) (show G.2.2.1.size ≤ b + 9 from Nat.le_trans w.1 (Nat.le_add_right b 9)) ?_
  intro h454 e454
  replace w : MkM G b 9 fs (wrdS 62) h h454 := w.upd (o := 9) (by decide) (Nat.le_refl 9) rfl e454
  exact kk _ w
theorem k_init (l : Launch) (G : GG) (d : Nat) (hd : 2 ≤ d) (b : Nat) (h : AH) (hb : G.2.2.1.size ≤ b) (ho : h b = some (.inr (3, dfM))) (P : Option Value → AH → Nat → Prop) (hs : ∀ h', IsMod G b mod0 h' → (∀ a, a < b → h' a = h a) → P none h' (b + 23)) : Ct l G mX3_init d 22 13687 [.ref b] h (b + 1) P := by
  refine Ct.of rfl (Nat.le_of_ble_eq_true rfl) rfl ?_
  have w : MkM G b 0 dfM zS h h := ⟨hb, ho, fun o h1 h2 => by omega, fun _ _ => rfl⟩
  have hwS : ∀ o, o ≠ 9 → ∀ j, wrdS j o = zS o := by
    intro o h9 j
    induction j with
    | zero => rfl
    | succ j ih => rw [wrdS, up2_n h9]; exact ih
  refine X.walk wkX3_init fnil RetOk.no ⟨(by show 0 ≤ 22; decide), (by show 0 ≤ 13687; decide)⟩ [1] 2 rfl ?_
  refine X.objI wkX3_init.2.2.2 rfl q991 q124 q125 rfl (by show 1 ≤ d; omega) (by show 0 + 12 ≤ 40 * d; omega) ?_
  refine X.walk wkX3_init fnil RetOk.no ⟨(by show 0 ≤ 22; decide), (by show 0 ≤ 13687; decide)⟩ [8] 3 rfl ?_
  refine X.newI (N := 348) wkX3_init.2.2.2 rfl q163 rfl rfl (by decide) (by show 0 + 1 ≤ 22; decide) (by show 0 + 348 ≤ 13687; decide) ?_
  intro h8 e8
  replace w : MkM G b 1 [.int 0, .null, .null, .int 0, .int 0, .int 0, .int 0, .null, .int 0, .null, .null, .null, .int 0, .int 0, .int 0, .int 0, .int 0, .int 0, .null, .null, .int 0, .int 0, .int 0, .int 0, .int 0, .null, .int 0, .null, .null, .null, .null, .null, .int 0, .int 0, .null, .int 0, .int 0, .int 0, .int 0, .int 0, .null, .null, .null, .null, .null, .null, .int 0, .int 0, .int 0, .null] (zS) h h8 := w.new (k := 0) e8 rfl
  refine X.walk wkX3_init fnil RetOk.no ⟨(by show 1 ≤ 22; decide), (by show 348 ≤ 13687; decide)⟩ [17] 4 rfl ?_
  refine pF0 (okV_W rfl) w.2.1 (Nat.le_of_ble_eq_true rfl) w.1 ?_
  intro h10 e10
  replace w : MkM G b 1 [.int 0, .ref (b + 1), .null, .int 0, .int 0, .int 0, .int 0, .null, .int 0, .null, .null, .null, .int 0, .int 0, .int 0, .int 0, .int 0, .int 0, .null, .null, .int 0, .int 0, .int 0, .int 0, .int 0, .null, .int 0, .null, .null, .null, .null, .null, .int 0, .int 0, .null, .int 0, .int 0, .int 0, .int 0, .int 0, .null, .null, .null, .null, .null, .null, .int 0, .int 0, .int 0, .null] (zS) h h10 := w.put e10
  refine X.newI (N := 4176) wkX3_init.2.2.2 rfl q163 rfl rfl (by decide) (by show 1 + 1 ≤ 22; decide) (by show 348 + 4176 ≤ 13687; decide) ?_
  intro h17 e17
  replace w : MkM G b 2 [.int 0, .ref (b + 1), .null, .int 0, .int 0, .int 0, .int 0, .null, .int 0, .null, .null, .null, .int 0, .int 0, .int 0, .int 0, .int 0, .int 0, .null, .null, .int 0, .int 0, .int 0, .int 0, .int 0, .null, .int 0, .null, .null, .null, .null, .null, .int 0, .int 0, .null, .int 0, .int 0, .int 0, .int 0, .int 0, .null, .null, .null, .null, .null, .null, .int 0, .int 0, .int 0, .null] (zS) h h17 := w.new (k := 1) e17 rfl
  refine X.walk wkX3_init fnil RetOk.no ⟨(by show 2 ≤ 22; decide), (by show 4524 ≤ 13687; decide)⟩ [37] 10 rfl ?_
  refine pF0 (okV_W rfl) w.2.1 (Nat.le_of_ble_eq_true rfl) w.1 ?_
  intro h19 e19
  replace w : MkM G b 2 [.int 0, .ref (b + 1), .ref (b + 2), .int 0, .int 0, .int 0, .int 0, .null, .int 0, .null, .null, .null, .int 0, .int 0, .int 0, .int 0, .int 0, .int 0, .null, .null, .int 0, .int 0, .int 0, .int 0, .int 0, .null, .int 0, .null, .null, .null, .null, .null, .int 0, .int 0, .null, .int 0, .int 0, .int 0, .int 0, .int 0, .null, .null, .null, .null, .null, .null, .int 0, .int 0, .int 0, .null] (zS) h h19 := w.put e19
  refine pF0 (okV_W rfl) w.2.1 (Nat.le_of_ble_eq_true rfl) w.1 ?_
  intro h25 e25
  replace w : MkM G b 2 [.int 0, .ref (b + 1), .ref (b + 2), .int 0, .int 0, .int 6, .int 0, .null, .int 0, .null, .null, .null, .int 0, .int 0, .int 0, .int 0, .int 0, .int 0, .null, .null, .int 0, .int 0, .int 0, .int 0, .int 0, .null, .int 0, .null, .null, .null, .null, .null, .int 0, .int 0, .null, .int 0, .int 0, .int 0, .int 0, .int 0, .null, .null, .null, .null, .null, .null, .int 0, .int 0, .int 0, .null] (zS) h h25 := w.put e25
  refine pF0 (okV_W rfl) w.2.1 (Nat.le_of_ble_eq_true rfl) w.1 ?_
  intro h31 e31
  replace w : MkM G b 2 [.int 0, .ref (b + 1), .ref (b + 2), .int 0, .int 0, .int 6, .int 6, .null, .int 0, .null, .null, .null, .int 0, .int 0, .int 0, .int 0, .int 0, .int 0, .null, .null, .int 0, .int 0, .int 0, .int 0, .int 0, .null, .int 0, .null, .null, .null, .null, .null, .int 0, .int 0, .null, .int 0, .int 0, .int 0, .int 0, .int 0, .null, .null, .null, .null, .null, .null, .int 0, .int 0, .int 0, .null] (zS) h h31 := w.put e31
  refine X.newI (N := 64) wkX3_init.2.2.2 rfl q163 rfl rfl (by decide) (by show 2 + 1 ≤ 22; decide) (by show 4524 + 64 ≤ 13687; decide) ?_
  intro h37 e37
  replace w : MkM G b 3 [.int 0, .ref (b + 1), .ref (b + 2), .int 0, .int 0, .int 6, .int 6, .null, .int 0, .null, .null, .null, .int 0, .int 0, .int 0, .int 0, .int 0, .int 0, .null, .null, .int 0, .int 0, .int 0, .int 0, .int 0, .null, .int 0, .null, .null, .null, .null, .null, .int 0, .int 0, .null, .int 0, .int 0, .int 0, .int 0, .int 0, .null, .null, .null, .null, .null, .null, .int 0, .int 0, .int 0, .null] (zS) h h37 := w.new (k := 2) e37 rfl
  refine X.walk wkX3_init fnil RetOk.no ⟨(by show 3 ≤ 22; decide), (by show 4588 ≤ 13687; decide)⟩ [45] 4 rfl ?_
  refine pF0 (okV_W rfl) w.2.1 (Nat.le_of_ble_eq_true rfl) w.1 ?_
  intro h39 e39
  replace w : MkM G b 3 [.int 0, .ref (b + 1), .ref (b + 2), .int 0, .int 0, .int 6, .int 6, .ref (b + 3), .int 0, .null, .null, .null, .int 0, .int 0, .int 0, .int 0, .int 0, .int 0, .null, .null, .int 0, .int 0, .int 0, .int 0, .int 0, .null, .int 0, .null, .null, .null, .null, .null, .int 0, .int 0, .null, .int 0, .int 0, .int 0, .int 0, .int 0, .null, .null, .null, .null, .null, .null, .int 0, .int 0, .int 0, .null] (zS) h h39 := w.put e39
  refine X.newI (N := 12) wkX3_init.2.2.2 rfl q163 rfl rfl (by decide) (by show 3 + 1 ≤ 22; decide) (by show 4588 + 12 ≤ 13687; decide) ?_
  intro h45 e45
  replace w : MkM G b 4 [.int 0, .ref (b + 1), .ref (b + 2), .int 0, .int 0, .int 6, .int 6, .ref (b + 3), .int 0, .null, .null, .null, .int 0, .int 0, .int 0, .int 0, .int 0, .int 0, .null, .null, .int 0, .int 0, .int 0, .int 0, .int 0, .null, .int 0, .null, .null, .null, .null, .null, .int 0, .int 0, .null, .int 0, .int 0, .int 0, .int 0, .int 0, .null, .null, .null, .null, .null, .null, .int 0, .int 0, .int 0, .null] (zS) h h45 := w.new (k := 3) e45 rfl
  refine X.walk wkX3_init fnil RetOk.no ⟨(by show 4 ≤ 22; decide), (by show 4600 ≤ 13687; decide)⟩ [53] 4 rfl ?_
  refine pF0 (okV_W rfl) w.2.1 (Nat.le_of_ble_eq_true rfl) w.1 ?_
  intro h47 e47
  replace w : MkM G b 4 [.int 0, .ref (b + 1), .ref (b + 2), .int 0, .int 0, .int 6, .int 6, .ref (b + 3), .int 0, .ref (b + 4), .null, .null, .int 0, .int 0, .int 0, .int 0, .int 0, .int 0, .null, .null, .int 0, .int 0, .int 0, .int 0, .int 0, .null, .int 0, .null, .null, .null, .null, .null, .int 0, .int 0, .null, .int 0, .int 0, .int 0, .int 0, .int 0, .null, .null, .null, .null, .null, .null, .int 0, .int 0, .int 0, .null] (zS) h h47 := w.put e47
  refine X.newI (N := 12) wkX3_init.2.2.2 rfl q163 rfl rfl (by decide) (by show 4 + 1 ≤ 22; decide) (by show 4600 + 12 ≤ 13687; decide) ?_
  intro h53 e53
  replace w : MkM G b 5 [.int 0, .ref (b + 1), .ref (b + 2), .int 0, .int 0, .int 6, .int 6, .ref (b + 3), .int 0, .ref (b + 4), .null, .null, .int 0, .int 0, .int 0, .int 0, .int 0, .int 0, .null, .null, .int 0, .int 0, .int 0, .int 0, .int 0, .null, .int 0, .null, .null, .null, .null, .null, .int 0, .int 0, .null, .int 0, .int 0, .int 0, .int 0, .int 0, .null, .null, .null, .null, .null, .null, .int 0, .int 0, .int 0, .null] (zS) h h53 := w.new (k := 4) e53 rfl
  refine X.walk wkX3_init fnil RetOk.no ⟨(by show 5 ≤ 22; decide), (by show 4612 ≤ 13687; decide)⟩ [61] 4 rfl ?_
  refine pF0 (okV_W rfl) w.2.1 (Nat.le_of_ble_eq_true rfl) w.1 ?_
  intro h55 e55
  replace w : MkM G b 5 [.int 0, .ref (b + 1), .ref (b + 2), .int 0, .int 0, .int 6, .int 6, .ref (b + 3), .int 0, .ref (b + 4), .ref (b + 5), .null, .int 0, .int 0, .int 0, .int 0, .int 0, .int 0, .null, .null, .int 0, .int 0, .int 0, .int 0, .int 0, .null, .int 0, .null, .null, .null, .null, .null, .int 0, .int 0, .null, .int 0, .int 0, .int 0, .int 0, .int 0, .null, .null, .null, .null, .null, .null, .int 0, .int 0, .int 0, .null] (zS) h h55 := w.put e55
  refine X.newI (N := 12) wkX3_init.2.2.2 rfl q163 rfl rfl (by decide) (by show 5 + 1 ≤ 22; decide) (by show 4612 + 12 ≤ 13687; decide) ?_
  intro h61 e61
  replace w : MkM G b 6 [.int 0, .ref (b + 1), .ref (b + 2), .int 0, .int 0, .int 6, .int 6, .ref (b + 3), .int 0, .ref (b + 4), .ref (b + 5), .null, .int 0, .int 0, .int 0, .int 0, .int 0, .int 0, .null, .null, .int 0, .int 0, .int 0, .int 0, .int 0, .null, .int 0, .null, .null, .null, .null, .null, .int 0, .int 0, .null, .int 0, .int 0, .int 0, .int 0, .int 0, .null, .null, .null, .null, .null, .null, .int 0, .int 0, .int 0, .null] (zS) h h61 := w.new (k := 5) e61 rfl
  refine X.walk wkX3_init fnil RetOk.no ⟨(by show 6 ≤ 22; decide), (by show 4624 ≤ 13687; decide)⟩ [70] 4 rfl ?_
  refine pF0 (okV_W rfl) w.2.1 (Nat.le_of_ble_eq_true rfl) w.1 ?_
  intro h63 e63
  replace w : MkM G b 6 [.int 0, .ref (b + 1), .ref (b + 2), .int 0, .int 0, .int 6, .int 6, .ref (b + 3), .int 0, .ref (b + 4), .ref (b + 5), .ref (b + 6), .int 0, .int 0, .int 0, .int 0, .int 0, .int 0, .null, .null, .int 0, .int 0, .int 0, .int 0, .int 0, .null, .int 0, .null, .null, .null, .null, .null, .int 0, .int 0, .null, .int 0, .int 0, .int 0, .int 0, .int 0, .null, .null, .null, .null, .null, .null, .int 0, .int 0, .int 0, .null] (zS) h h63 := w.put e63
  refine X.newI (N := 400) wkX3_init.2.2.2 rfl q163 rfl rfl (by decide) (by show 6 + 1 ≤ 22; decide) (by show 4624 + 400 ≤ 13687; decide) ?_
  intro h70 e70
  replace w : MkM G b 7 [.int 0, .ref (b + 1), .ref (b + 2), .int 0, .int 0, .int 6, .int 6, .ref (b + 3), .int 0, .ref (b + 4), .ref (b + 5), .ref (b + 6), .int 0, .int 0, .int 0, .int 0, .int 0, .int 0, .null, .null, .int 0, .int 0, .int 0, .int 0, .int 0, .null, .int 0, .null, .null, .null, .null, .null, .int 0, .int 0, .null, .int 0, .int 0, .int 0, .int 0, .int 0, .null, .null, .null, .null, .null, .null, .int 0, .int 0, .int 0, .null] (zS) h h70 := w.new (k := 6) e70 rfl
  refine X.walk wkX3_init fnil RetOk.no ⟨(by show 7 ≤ 22; decide), (by show 5024 ≤ 13687; decide)⟩ [79] 4 rfl ?_
  refine pF0 (okV_W rfl) w.2.1 (Nat.le_of_ble_eq_true rfl) w.1 ?_
  intro h72 e72
  replace w : MkM G b 7 [.int 0, .ref (b + 1), .ref (b + 2), .int 0, .int 0, .int 6, .int 6, .ref (b + 3), .int 0, .ref (b + 4), .ref (b + 5), .ref (b + 6), .int 0, .int 0, .int 0, .int 0, .int 0, .int 0, .ref (b + 7), .null, .int 0, .int 0, .int 0, .int 0, .int 0, .null, .int 0, .null, .null, .null, .null, .null, .int 0, .int 0, .null, .int 0, .int 0, .int 0, .int 0, .int 0, .null, .null, .null, .null, .null, .null, .int 0, .int 0, .int 0, .null] (zS) h h72 := w.put e72
  refine X.newI (N := 400) wkX3_init.2.2.2 rfl q163 rfl rfl (by decide) (by show 7 + 1 ≤ 22; decide) (by show 5024 + 400 ≤ 13687; decide) ?_
  intro h79 e79
  replace w : MkM G b 8 [.int 0, .ref (b + 1), .ref (b + 2), .int 0, .int 0, .int 6, .int 6, .ref (b + 3), .int 0, .ref (b + 4), .ref (b + 5), .ref (b + 6), .int 0, .int 0, .int 0, .int 0, .int 0, .int 0, .ref (b + 7), .null, .int 0, .int 0, .int 0, .int 0, .int 0, .null, .int 0, .null, .null, .null, .null, .null, .int 0, .int 0, .null, .int 0, .int 0, .int 0, .int 0, .int 0, .null, .null, .null, .null, .null, .null, .int 0, .int 0, .int 0, .null] (zS) h h79 := w.new (k := 7) e79 rfl
  refine X.walk wkX3_init fnil RetOk.no ⟨(by show 8 ≤ 22; decide), (by show 5424 ≤ 13687; decide)⟩ [87] 4 rfl ?_
  refine pF0 (okV_W rfl) w.2.1 (Nat.le_of_ble_eq_true rfl) w.1 ?_
  intro h81 e81
  replace w : MkM G b 8 [.int 0, .ref (b + 1), .ref (b + 2), .int 0, .int 0, .int 6, .int 6, .ref (b + 3), .int 0, .ref (b + 4), .ref (b + 5), .ref (b + 6), .int 0, .int 0, .int 0, .int 0, .int 0, .int 0, .ref (b + 7), .ref (b + 8), .int 0, .int 0, .int 0, .int 0, .int 0, .null, .int 0, .null, .null, .null, .null, .null, .int 0, .int 0, .null, .int 0, .int 0, .int 0, .int 0, .int 0, .null, .null, .null, .null, .null, .null, .int 0, .int 0, .int 0, .null] (zS) h h81 := w.put e81
  refine X.newI (N := 62) wkX3_init.2.2.2 rfl q163 rfl rfl (by decide) (by show 8 + 1 ≤ 22; decide) (by show 5424 + 62 ≤ 13687; decide) ?_
  intro h87 e87
  replace w : MkM G b 9 [.int 0, .ref (b + 1), .ref (b + 2), .int 0, .int 0, .int 6, .int 6, .ref (b + 3), .int 0, .ref (b + 4), .ref (b + 5), .ref (b + 6), .int 0, .int 0, .int 0, .int 0, .int 0, .int 0, .ref (b + 7), .ref (b + 8), .int 0, .int 0, .int 0, .int 0, .int 0, .null, .int 0, .null, .null, .null, .null, .null, .int 0, .int 0, .null, .int 0, .int 0, .int 0, .int 0, .int 0, .null, .null, .null, .null, .null, .null, .int 0, .int 0, .int 0, .null] (zS) h h87 := w.new (k := 8) e87 rfl
  refine k_iw h87 w (fun h454 w => ?_)
  refine X.walk wkX3_init fnil RetOk.no ⟨(by show 9 ≤ 22; decide), (by show 5486 ≤ 13687; decide)⟩ [461] 4 rfl ?_
  refine pF0 (okV_W rfl) w.2.1 (Nat.le_of_ble_eq_true rfl) w.1 ?_
  intro h455 e455
  replace w : MkM G b 9 [.int 0, .ref (b + 1), .ref (b + 2), .int 0, .int 0, .int 6, .int 6, .ref (b + 3), .int 0, .ref (b + 4), .ref (b + 5), .ref (b + 6), .int 0, .int 0, .int 0, .int 0, .int 0, .int 0, .ref (b + 7), .ref (b + 8), .int 0, .int 0, .int 0, .int 0, .int 0, .ref (b + 9), .int 0, .null, .null, .null, .null, .null, .int 0, .int 0, .null, .int 0, .int 0, .int 0, .int 0, .int 0, .null, .null, .null, .null, .null, .null, .int 0, .int 0, .int 0, .null] (wrdS 62) h h455 := w.put e455
  refine X.newI (N := 32) wkX3_init.2.2.2 rfl q163 rfl rfl (by decide) (by show 9 + 1 ≤ 22; decide) (by show 5486 + 32 ≤ 13687; decide) ?_
  intro h461 e461
  replace w : MkM G b 10 [.int 0, .ref (b + 1), .ref (b + 2), .int 0, .int 0, .int 6, .int 6, .ref (b + 3), .int 0, .ref (b + 4), .ref (b + 5), .ref (b + 6), .int 0, .int 0, .int 0, .int 0, .int 0, .int 0, .ref (b + 7), .ref (b + 8), .int 0, .int 0, .int 0, .int 0, .int 0, .ref (b + 9), .int 0, .null, .null, .null, .null, .null, .int 0, .int 0, .null, .int 0, .int 0, .int 0, .int 0, .int 0, .null, .null, .null, .null, .null, .null, .int 0, .int 0, .int 0, .null] (wrdS 62) h h461 := w.new (k := 9) e461 (hwS 10 (by decide) 62)
  refine X.walk wkX3_init fnil RetOk.no ⟨(by show 10 ≤ 22; decide), (by show 5518 ≤ 13687; decide)⟩ [469] 4 rfl ?_
  refine pF0 (okV_W rfl) w.2.1 (Nat.le_of_ble_eq_true rfl) w.1 ?_
  intro h463 e463
  replace w : MkM G b 10 [.int 0, .ref (b + 1), .ref (b + 2), .int 0, .int 0, .int 6, .int 6, .ref (b + 3), .int 0, .ref (b + 4), .ref (b + 5), .ref (b + 6), .int 0, .int 0, .int 0, .int 0, .int 0, .int 0, .ref (b + 7), .ref (b + 8), .int 0, .int 0, .int 0, .int 0, .int 0, .ref (b + 9), .int 0, .ref (b + 10), .null, .null, .null, .null, .int 0, .int 0, .null, .int 0, .int 0, .int 0, .int 0, .int 0, .null, .null, .null, .null, .null, .null, .int 0, .int 0, .int 0, .null] (wrdS 62) h h463 := w.put e463
  refine X.newI (N := 32) wkX3_init.2.2.2 rfl q163 rfl rfl (by decide) (by show 10 + 1 ≤ 22; decide) (by show 5518 + 32 ≤ 13687; decide) ?_
  intro h469 e469
  replace w : MkM G b 11 [.int 0, .ref (b + 1), .ref (b + 2), .int 0, .int 0, .int 6, .int 6, .ref (b + 3), .int 0, .ref (b + 4), .ref (b + 5), .ref (b + 6), .int 0, .int 0, .int 0, .int 0, .int 0, .int 0, .ref (b + 7), .ref (b + 8), .int 0, .int 0, .int 0, .int 0, .int 0, .ref (b + 9), .int 0, .ref (b + 10), .null, .null, .null, .null, .int 0, .int 0, .null, .int 0, .int 0, .int 0, .int 0, .int 0, .null, .null, .null, .null, .null, .null, .int 0, .int 0, .int 0, .null] (wrdS 62) h h469 := w.new (k := 10) e469 (hwS 11 (by decide) 62)
  refine X.walk wkX3_init fnil RetOk.no ⟨(by show 11 ≤ 22; decide), (by show 5550 ≤ 13687; decide)⟩ [477] 4 rfl ?_
  refine pF0 (okV_W rfl) w.2.1 (Nat.le_of_ble_eq_true rfl) w.1 ?_
  intro h471 e471
  replace w : MkM G b 11 [.int 0, .ref (b + 1), .ref (b + 2), .int 0, .int 0, .int 6, .int 6, .ref (b + 3), .int 0, .ref (b + 4), .ref (b + 5), .ref (b + 6), .int 0, .int 0, .int 0, .int 0, .int 0, .int 0, .ref (b + 7), .ref (b + 8), .int 0, .int 0, .int 0, .int 0, .int 0, .ref (b + 9), .int 0, .ref (b + 10), .ref (b + 11), .null, .null, .null, .int 0, .int 0, .null, .int 0, .int 0, .int 0, .int 0, .int 0, .null, .null, .null, .null, .null, .null, .int 0, .int 0, .int 0, .null] (wrdS 62) h h471 := w.put e471
  refine X.newI (N := 32) wkX3_init.2.2.2 rfl q163 rfl rfl (by decide) (by show 11 + 1 ≤ 22; decide) (by show 5550 + 32 ≤ 13687; decide) ?_
  intro h477 e477
  replace w : MkM G b 12 [.int 0, .ref (b + 1), .ref (b + 2), .int 0, .int 0, .int 6, .int 6, .ref (b + 3), .int 0, .ref (b + 4), .ref (b + 5), .ref (b + 6), .int 0, .int 0, .int 0, .int 0, .int 0, .int 0, .ref (b + 7), .ref (b + 8), .int 0, .int 0, .int 0, .int 0, .int 0, .ref (b + 9), .int 0, .ref (b + 10), .ref (b + 11), .null, .null, .null, .int 0, .int 0, .null, .int 0, .int 0, .int 0, .int 0, .int 0, .null, .null, .null, .null, .null, .null, .int 0, .int 0, .int 0, .null] (wrdS 62) h h477 := w.new (k := 11) e477 (hwS 12 (by decide) 62)
  refine X.walk wkX3_init fnil RetOk.no ⟨(by show 12 ≤ 22; decide), (by show 5582 ≤ 13687; decide)⟩ [486] 4 rfl ?_
  refine pF0 (okV_W rfl) w.2.1 (Nat.le_of_ble_eq_true rfl) w.1 ?_
  intro h479 e479
  replace w : MkM G b 12 [.int 0, .ref (b + 1), .ref (b + 2), .int 0, .int 0, .int 6, .int 6, .ref (b + 3), .int 0, .ref (b + 4), .ref (b + 5), .ref (b + 6), .int 0, .int 0, .int 0, .int 0, .int 0, .int 0, .ref (b + 7), .ref (b + 8), .int 0, .int 0, .int 0, .int 0, .int 0, .ref (b + 9), .int 0, .ref (b + 10), .ref (b + 11), .ref (b + 12), .null, .null, .int 0, .int 0, .null, .int 0, .int 0, .int 0, .int 0, .int 0, .null, .null, .null, .null, .null, .null, .int 0, .int 0, .int 0, .null] (wrdS 62) h h479 := w.put e479
  refine X.newI (N := 800) wkX3_init.2.2.2 rfl q163 rfl rfl (by decide) (by show 12 + 1 ≤ 22; decide) (by show 5582 + 800 ≤ 13687; decide) ?_
  intro h486 e486
  replace w : MkM G b 13 [.int 0, .ref (b + 1), .ref (b + 2), .int 0, .int 0, .int 6, .int 6, .ref (b + 3), .int 0, .ref (b + 4), .ref (b + 5), .ref (b + 6), .int 0, .int 0, .int 0, .int 0, .int 0, .int 0, .ref (b + 7), .ref (b + 8), .int 0, .int 0, .int 0, .int 0, .int 0, .ref (b + 9), .int 0, .ref (b + 10), .ref (b + 11), .ref (b + 12), .null, .null, .int 0, .int 0, .null, .int 0, .int 0, .int 0, .int 0, .int 0, .null, .null, .null, .null, .null, .null, .int 0, .int 0, .int 0, .null] (wrdS 62) h h486 := w.new (k := 12) e486 (hwS 13 (by decide) 62)
  refine X.walk wkX3_init fnil RetOk.no ⟨(by show 13 ≤ 22; decide), (by show 6382 ≤ 13687; decide)⟩ [495] 4 rfl ?_
  refine pF0 (okV_W rfl) w.2.1 (Nat.le_of_ble_eq_true rfl) w.1 ?_
  intro h488 e488
  replace w : MkM G b 13 [.int 0, .ref (b + 1), .ref (b + 2), .int 0, .int 0, .int 6, .int 6, .ref (b + 3), .int 0, .ref (b + 4), .ref (b + 5), .ref (b + 6), .int 0, .int 0, .int 0, .int 0, .int 0, .int 0, .ref (b + 7), .ref (b + 8), .int 0, .int 0, .int 0, .int 0, .int 0, .ref (b + 9), .int 0, .ref (b + 10), .ref (b + 11), .ref (b + 12), .ref (b + 13), .null, .int 0, .int 0, .null, .int 0, .int 0, .int 0, .int 0, .int 0, .null, .null, .null, .null, .null, .null, .int 0, .int 0, .int 0, .null] (wrdS 62) h h488 := w.put e488
  refine X.newI (N := 800) wkX3_init.2.2.2 rfl q163 rfl rfl (by decide) (by show 13 + 1 ≤ 22; decide) (by show 6382 + 800 ≤ 13687; decide) ?_
  intro h495 e495
  replace w : MkM G b 14 [.int 0, .ref (b + 1), .ref (b + 2), .int 0, .int 0, .int 6, .int 6, .ref (b + 3), .int 0, .ref (b + 4), .ref (b + 5), .ref (b + 6), .int 0, .int 0, .int 0, .int 0, .int 0, .int 0, .ref (b + 7), .ref (b + 8), .int 0, .int 0, .int 0, .int 0, .int 0, .ref (b + 9), .int 0, .ref (b + 10), .ref (b + 11), .ref (b + 12), .ref (b + 13), .null, .int 0, .int 0, .null, .int 0, .int 0, .int 0, .int 0, .int 0, .null, .null, .null, .null, .null, .null, .int 0, .int 0, .int 0, .null] (wrdS 62) h h495 := w.new (k := 13) e495 (hwS 14 (by decide) 62)
  refine X.walk wkX3_init fnil RetOk.no ⟨(by show 14 ≤ 22; decide), (by show 7182 ≤ 13687; decide)⟩ [503] 4 rfl ?_
  refine pF0 (okV_W rfl) w.2.1 (Nat.le_of_ble_eq_true rfl) w.1 ?_
  intro h497 e497
  replace w : MkM G b 14 [.int 0, .ref (b + 1), .ref (b + 2), .int 0, .int 0, .int 6, .int 6, .ref (b + 3), .int 0, .ref (b + 4), .ref (b + 5), .ref (b + 6), .int 0, .int 0, .int 0, .int 0, .int 0, .int 0, .ref (b + 7), .ref (b + 8), .int 0, .int 0, .int 0, .int 0, .int 0, .ref (b + 9), .int 0, .ref (b + 10), .ref (b + 11), .ref (b + 12), .ref (b + 13), .ref (b + 14), .int 0, .int 0, .null, .int 0, .int 0, .int 0, .int 0, .int 0, .null, .null, .null, .null, .null, .null, .int 0, .int 0, .int 0, .null] (wrdS 62) h h497 := w.put e497
  refine X.newI (N := 40) wkX3_init.2.2.2 rfl q163 rfl rfl (by decide) (by show 14 + 1 ≤ 22; decide) (by show 7182 + 40 ≤ 13687; decide) ?_
  intro h503 e503
  replace w : MkM G b 15 [.int 0, .ref (b + 1), .ref (b + 2), .int 0, .int 0, .int 6, .int 6, .ref (b + 3), .int 0, .ref (b + 4), .ref (b + 5), .ref (b + 6), .int 0, .int 0, .int 0, .int 0, .int 0, .int 0, .ref (b + 7), .ref (b + 8), .int 0, .int 0, .int 0, .int 0, .int 0, .ref (b + 9), .int 0, .ref (b + 10), .ref (b + 11), .ref (b + 12), .ref (b + 13), .ref (b + 14), .int 0, .int 0, .null, .int 0, .int 0, .int 0, .int 0, .int 0, .null, .null, .null, .null, .null, .null, .int 0, .int 0, .int 0, .null] (wrdS 62) h h503 := w.new (k := 14) e503 (hwS 15 (by decide) 62)
  refine X.walk wkX3_init fnil RetOk.no ⟨(by show 15 ≤ 22; decide), (by show 7222 ≤ 13687; decide)⟩ [516] 7 rfl ?_
  refine pF0 (okV_W rfl) w.2.1 (Nat.le_of_ble_eq_true rfl) w.1 ?_
  intro h505 e505
  replace w : MkM G b 15 [.int 0, .ref (b + 1), .ref (b + 2), .int 0, .int 0, .int 6, .int 6, .ref (b + 3), .int 0, .ref (b + 4), .ref (b + 5), .ref (b + 6), .int 0, .int 0, .int 0, .int 0, .int 0, .int 0, .ref (b + 7), .ref (b + 8), .int 0, .int 0, .int 0, .int 0, .int 0, .ref (b + 9), .int 0, .ref (b + 10), .ref (b + 11), .ref (b + 12), .ref (b + 13), .ref (b + 14), .int 0, .int 0, .ref (b + 15), .int 0, .int 0, .int 0, .int 0, .int 0, .null, .null, .null, .null, .null, .null, .int 0, .int 0, .int 0, .null] (wrdS 62) h h505 := w.put e505
  refine pF0 (okV_W rfl) w.2.1 (Nat.le_of_ble_eq_true rfl) w.1 ?_
  intro h510 e510
  replace w : MkM G b 15 [.int 0, .ref (b + 1), .ref (b + 2), .int 0, .int 0, .int 6, .int 6, .ref (b + 3), .int 0, .ref (b + 4), .ref (b + 5), .ref (b + 6), .int 0, .int 0, .int 0, .int 0, .int 0, .int 0, .ref (b + 7), .ref (b + 8), .int 0, .int 0, .int 0, .int 0, .int 0, .ref (b + 9), .int 0, .ref (b + 10), .ref (b + 11), .ref (b + 12), .ref (b + 13), .ref (b + 14), .int 0, .int 0, .ref (b + 15), .int 0, .int 0, .int 0, .int 0, .int (-1), .null, .null, .null, .null, .null, .null, .int 0, .int 0, .int 0, .null] (wrdS 62) h h510 := w.put e510
  refine X.newI (N := 9) wkX3_init.2.2.2 rfl q163 rfl rfl (by decide) (by show 15 + 1 ≤ 22; decide) (by show 7222 + 9 ≤ 13687; decide) ?_
  intro h516 e516
  replace w : MkM G b 16 [.int 0, .ref (b + 1), .ref (b + 2), .int 0, .int 0, .int 6, .int 6, .ref (b + 3), .int 0, .ref (b + 4), .ref (b + 5), .ref (b + 6), .int 0, .int 0, .int 0, .int 0, .int 0, .int 0, .ref (b + 7), .ref (b + 8), .int 0, .int 0, .int 0, .int 0, .int 0, .ref (b + 9), .int 0, .ref (b + 10), .ref (b + 11), .ref (b + 12), .ref (b + 13), .ref (b + 14), .int 0, .int 0, .ref (b + 15), .int 0, .int 0, .int 0, .int 0, .int (-1), .null, .null, .null, .null, .null, .null, .int 0, .int 0, .int 0, .null] (wrdS 62) h h516 := w.new (k := 15) e516 (hwS 16 (by decide) 62)
  refine X.walk wkX3_init fnil RetOk.no ⟨(by show 16 ≤ 22; decide), (by show 7231 ≤ 13687; decide)⟩ [525] 4 rfl ?_
  refine pF0 (okV_W rfl) w.2.1 (Nat.le_of_ble_eq_true rfl) w.1 ?_
  intro h518 e518
  replace w : MkM G b 16 [.int 0, .ref (b + 1), .ref (b + 2), .int 0, .int 0, .int 6, .int 6, .ref (b + 3), .int 0, .ref (b + 4), .ref (b + 5), .ref (b + 6), .int 0, .int 0, .int 0, .int 0, .int 0, .int 0, .ref (b + 7), .ref (b + 8), .int 0, .int 0, .int 0, .int 0, .int 0, .ref (b + 9), .int 0, .ref (b + 10), .ref (b + 11), .ref (b + 12), .ref (b + 13), .ref (b + 14), .int 0, .int 0, .ref (b + 15), .int 0, .int 0, .int 0, .int 0, .int (-1), .ref (b + 16), .null, .null, .null, .null, .null, .int 0, .int 0, .int 0, .null] (wrdS 62) h h518 := w.put e518
  refine X.newI (N := 420) wkX3_init.2.2.2 rfl q163 rfl rfl (by decide) (by show 16 + 1 ≤ 22; decide) (by show 7231 + 420 ≤ 13687; decide) ?_
  intro h525 e525
  replace w : MkM G b 17 [.int 0, .ref (b + 1), .ref (b + 2), .int 0, .int 0, .int 6, .int 6, .ref (b + 3), .int 0, .ref (b + 4), .ref (b + 5), .ref (b + 6), .int 0, .int 0, .int 0, .int 0, .int 0, .int 0, .ref (b + 7), .ref (b + 8), .int 0, .int 0, .int 0, .int 0, .int 0, .ref (b + 9), .int 0, .ref (b + 10), .ref (b + 11), .ref (b + 12), .ref (b + 13), .ref (b + 14), .int 0, .int 0, .ref (b + 15), .int 0, .int 0, .int 0, .int 0, .int (-1), .ref (b + 16), .null, .null, .null, .null, .null, .int 0, .int 0, .int 0, .null] (wrdS 62) h h525 := w.new (k := 16) e525 (hwS 17 (by decide) 62)
  refine X.walk wkX3_init fnil RetOk.no ⟨(by show 17 ≤ 22; decide), (by show 7651 ≤ 13687; decide)⟩ [533] 4 rfl ?_
  refine pF0 (okV_W rfl) w.2.1 (Nat.le_of_ble_eq_true rfl) w.1 ?_
  intro h527 e527
  replace w : MkM G b 17 [.int 0, .ref (b + 1), .ref (b + 2), .int 0, .int 0, .int 6, .int 6, .ref (b + 3), .int 0, .ref (b + 4), .ref (b + 5), .ref (b + 6), .int 0, .int 0, .int 0, .int 0, .int 0, .int 0, .ref (b + 7), .ref (b + 8), .int 0, .int 0, .int 0, .int 0, .int 0, .ref (b + 9), .int 0, .ref (b + 10), .ref (b + 11), .ref (b + 12), .ref (b + 13), .ref (b + 14), .int 0, .int 0, .ref (b + 15), .int 0, .int 0, .int 0, .int 0, .int (-1), .ref (b + 16), .ref (b + 17), .null, .null, .null, .null, .int 0, .int 0, .int 0, .null] (wrdS 62) h h527 := w.put e527
  refine X.newI (N := 64) wkX3_init.2.2.2 rfl q163 rfl rfl (by decide) (by show 17 + 1 ≤ 22; decide) (by show 7651 + 64 ≤ 13687; decide) ?_
  intro h533 e533
  replace w : MkM G b 18 [.int 0, .ref (b + 1), .ref (b + 2), .int 0, .int 0, .int 6, .int 6, .ref (b + 3), .int 0, .ref (b + 4), .ref (b + 5), .ref (b + 6), .int 0, .int 0, .int 0, .int 0, .int 0, .int 0, .ref (b + 7), .ref (b + 8), .int 0, .int 0, .int 0, .int 0, .int 0, .ref (b + 9), .int 0, .ref (b + 10), .ref (b + 11), .ref (b + 12), .ref (b + 13), .ref (b + 14), .int 0, .int 0, .ref (b + 15), .int 0, .int 0, .int 0, .int 0, .int (-1), .ref (b + 16), .ref (b + 17), .null, .null, .null, .null, .int 0, .int 0, .int 0, .null] (wrdS 62) h h533 := w.new (k := 17) e533 (hwS 18 (by decide) 62)
  refine X.walk wkX3_init fnil RetOk.no ⟨(by show 18 ≤ 22; decide), (by show 7715 ≤ 13687; decide)⟩ [541] 4 rfl ?_
  refine pF0 (okV_W rfl) w.2.1 (Nat.le_of_ble_eq_true rfl) w.1 ?_
  intro h535 e535
  replace w : MkM G b 18 [.int 0, .ref (b + 1), .ref (b + 2), .int 0, .int 0, .int 6, .int 6, .ref (b + 3), .int 0, .ref (b + 4), .ref (b + 5), .ref (b + 6), .int 0, .int 0, .int 0, .int 0, .int 0, .int 0, .ref (b + 7), .ref (b + 8), .int 0, .int 0, .int 0, .int 0, .int 0, .ref (b + 9), .int 0, .ref (b + 10), .ref (b + 11), .ref (b + 12), .ref (b + 13), .ref (b + 14), .int 0, .int 0, .ref (b + 15), .int 0, .int 0, .int 0, .int 0, .int (-1), .ref (b + 16), .ref (b + 17), .ref (b + 18), .null, .null, .null, .int 0, .int 0, .int 0, .null] (wrdS 62) h h535 := w.put e535
  refine X.newI (N := 64) wkX3_init.2.2.2 rfl q163 rfl rfl (by decide) (by show 18 + 1 ≤ 22; decide) (by show 7715 + 64 ≤ 13687; decide) ?_
  intro h541 e541
  replace w : MkM G b 19 [.int 0, .ref (b + 1), .ref (b + 2), .int 0, .int 0, .int 6, .int 6, .ref (b + 3), .int 0, .ref (b + 4), .ref (b + 5), .ref (b + 6), .int 0, .int 0, .int 0, .int 0, .int 0, .int 0, .ref (b + 7), .ref (b + 8), .int 0, .int 0, .int 0, .int 0, .int 0, .ref (b + 9), .int 0, .ref (b + 10), .ref (b + 11), .ref (b + 12), .ref (b + 13), .ref (b + 14), .int 0, .int 0, .ref (b + 15), .int 0, .int 0, .int 0, .int 0, .int (-1), .ref (b + 16), .ref (b + 17), .ref (b + 18), .null, .null, .null, .int 0, .int 0, .int 0, .null] (wrdS 62) h h541 := w.new (k := 18) e541 (hwS 19 (by decide) 62)
  refine X.walk wkX3_init fnil RetOk.no ⟨(by show 19 ≤ 22; decide), (by show 7779 ≤ 13687; decide)⟩ [550] 4 rfl ?_
  refine pF0 (okV_W rfl) w.2.1 (Nat.le_of_ble_eq_true rfl) w.1 ?_
  intro h543 e543
  replace w : MkM G b 19 [.int 0, .ref (b + 1), .ref (b + 2), .int 0, .int 0, .int 6, .int 6, .ref (b + 3), .int 0, .ref (b + 4), .ref (b + 5), .ref (b + 6), .int 0, .int 0, .int 0, .int 0, .int 0, .int 0, .ref (b + 7), .ref (b + 8), .int 0, .int 0, .int 0, .int 0, .int 0, .ref (b + 9), .int 0, .ref (b + 10), .ref (b + 11), .ref (b + 12), .ref (b + 13), .ref (b + 14), .int 0, .int 0, .ref (b + 15), .int 0, .int 0, .int 0, .int 0, .int (-1), .ref (b + 16), .ref (b + 17), .ref (b + 18), .ref (b + 19), .null, .null, .int 0, .int 0, .int 0, .null] (wrdS 62) h h543 := w.put e543
  refine X.newI (N := 4096) wkX3_init.2.2.2 rfl q163 rfl rfl (by decide) (by show 19 + 1 ≤ 22; decide) (by show 7779 + 4096 ≤ 13687; decide) ?_
  intro h550 e550
  replace w : MkM G b 20 [.int 0, .ref (b + 1), .ref (b + 2), .int 0, .int 0, .int 6, .int 6, .ref (b + 3), .int 0, .ref (b + 4), .ref (b + 5), .ref (b + 6), .int 0, .int 0, .int 0, .int 0, .int 0, .int 0, .ref (b + 7), .ref (b + 8), .int 0, .int 0, .int 0, .int 0, .int 0, .ref (b + 9), .int 0, .ref (b + 10), .ref (b + 11), .ref (b + 12), .ref (b + 13), .ref (b + 14), .int 0, .int 0, .ref (b + 15), .int 0, .int 0, .int 0, .int 0, .int (-1), .ref (b + 16), .ref (b + 17), .ref (b + 18), .ref (b + 19), .null, .null, .int 0, .int 0, .int 0, .null] (wrdS 62) h h550 := w.new (k := 19) e550 (hwS 20 (by decide) 62)
  refine X.walk wkX3_init fnil RetOk.no ⟨(by show 20 ≤ 22; decide), (by show 11875 ≤ 13687; decide)⟩ [558] 4 rfl ?_
  refine pF0 (okV_W rfl) w.2.1 (Nat.le_of_ble_eq_true rfl) w.1 ?_
  intro h552 e552
  replace w : MkM G b 20 [.int 0, .ref (b + 1), .ref (b + 2), .int 0, .int 0, .int 6, .int 6, .ref (b + 3), .int 0, .ref (b + 4), .ref (b + 5), .ref (b + 6), .int 0, .int 0, .int 0, .int 0, .int 0, .int 0, .ref (b + 7), .ref (b + 8), .int 0, .int 0, .int 0, .int 0, .int 0, .ref (b + 9), .int 0, .ref (b + 10), .ref (b + 11), .ref (b + 12), .ref (b + 13), .ref (b + 14), .int 0, .int 0, .ref (b + 15), .int 0, .int 0, .int 0, .int 0, .int (-1), .ref (b + 16), .ref (b + 17), .ref (b + 18), .ref (b + 19), .ref (b + 20), .null, .int 0, .int 0, .int 0, .null] (wrdS 62) h h552 := w.put e552
  refine X.newI (N := 12) wkX3_init.2.2.2 rfl q163 rfl rfl (by decide) (by show 20 + 1 ≤ 22; decide) (by show 11875 + 12 ≤ 13687; decide) ?_
  intro h558 e558
  replace w : MkM G b 21 [.int 0, .ref (b + 1), .ref (b + 2), .int 0, .int 0, .int 6, .int 6, .ref (b + 3), .int 0, .ref (b + 4), .ref (b + 5), .ref (b + 6), .int 0, .int 0, .int 0, .int 0, .int 0, .int 0, .ref (b + 7), .ref (b + 8), .int 0, .int 0, .int 0, .int 0, .int 0, .ref (b + 9), .int 0, .ref (b + 10), .ref (b + 11), .ref (b + 12), .ref (b + 13), .ref (b + 14), .int 0, .int 0, .ref (b + 15), .int 0, .int 0, .int 0, .int 0, .int (-1), .ref (b + 16), .ref (b + 17), .ref (b + 18), .ref (b + 19), .ref (b + 20), .null, .int 0, .int 0, .int 0, .null] (wrdS 62) h h558 := w.new (k := 20) e558 (hwS 21 (by decide) 62)
  refine X.walk wkX3_init fnil RetOk.no ⟨(by show 21 ≤ 22; decide), (by show 11887 ≤ 13687; decide)⟩ [567] 4 rfl ?_
  refine pF0 (okV_W rfl) w.2.1 (Nat.le_of_ble_eq_true rfl) w.1 ?_
  intro h560 e560
  replace w : MkM G b 21 [.int 0, .ref (b + 1), .ref (b + 2), .int 0, .int 0, .int 6, .int 6, .ref (b + 3), .int 0, .ref (b + 4), .ref (b + 5), .ref (b + 6), .int 0, .int 0, .int 0, .int 0, .int 0, .int 0, .ref (b + 7), .ref (b + 8), .int 0, .int 0, .int 0, .int 0, .int 0, .ref (b + 9), .int 0, .ref (b + 10), .ref (b + 11), .ref (b + 12), .ref (b + 13), .ref (b + 14), .int 0, .int 0, .ref (b + 15), .int 0, .int 0, .int 0, .int 0, .int (-1), .ref (b + 16), .ref (b + 17), .ref (b + 18), .ref (b + 19), .ref (b + 20), .ref (b + 21), .int 0, .int 0, .int 0, .null] (wrdS 62) h h560 := w.put e560
  refine X.newI (N := 1800) wkX3_init.2.2.2 rfl q163 rfl rfl (by decide) (by show 21 + 1 ≤ 22; decide) (by show 11887 + 1800 ≤ 13687; decide) ?_
  intro h567 e567
  replace w : MkM G b 22 [.int 0, .ref (b + 1), .ref (b + 2), .int 0, .int 0, .int 6, .int 6, .ref (b + 3), .int 0, .ref (b + 4), .ref (b + 5), .ref (b + 6), .int 0, .int 0, .int 0, .int 0, .int 0, .int 0, .ref (b + 7), .ref (b + 8), .int 0, .int 0, .int 0, .int 0, .int 0, .ref (b + 9), .int 0, .ref (b + 10), .ref (b + 11), .ref (b + 12), .ref (b + 13), .ref (b + 14), .int 0, .int 0, .ref (b + 15), .int 0, .int 0, .int 0, .int 0, .int (-1), .ref (b + 16), .ref (b + 17), .ref (b + 18), .ref (b + 19), .ref (b + 20), .ref (b + 21), .int 0, .int 0, .int 0, .null] (wrdS 62) h h567 := w.new (k := 21) e567 (hwS 22 (by decide) 62)
  refine X.walk wkX3_init fnil (RetOk.m (Nat.le_refl 22) (Nat.le_refl 13687)) ⟨Nat.le_refl 22, Nat.le_refl 13687⟩ [] 3 rfl ?_
  refine pF0 (okV_W rfl) w.2.1 (Nat.le_of_ble_eq_true rfl) w.1 ?_
  intro h569 e569
  replace w : MkM G b 22 [.int 0, .ref (b + 1), .ref (b + 2), .int 0, .int 0, .int 6, .int 6, .ref (b + 3), .int 0, .ref (b + 4), .ref (b + 5), .ref (b + 6), .int 0, .int 0, .int 0, .int 0, .int 0, .int 0, .ref (b + 7), .ref (b + 8), .int 0, .int 0, .int 0, .int 0, .int 0, .ref (b + 9), .int 0, .ref (b + 10), .ref (b + 11), .ref (b + 12), .ref (b + 13), .ref (b + 14), .int 0, .int 0, .ref (b + 15), .int 0, .int 0, .int 0, .int 0, .int (-1), .ref (b + 16), .ref (b + 17), .ref (b + 18), .ref (b + 19), .ref (b + 20), .ref (b + 21), .int 0, .int 0, .int 0, .ref (b + 22)] (wrdS 62) h h569 := w.put e569
  refine hs _ ⟨w.1, fun o e he => ?_⟩ w.2.2.2
  have h22 := mC_hi he
  have hA : ∀ q, 1 ≤ q → q ≠ 9 → mod0 q = wrdS 62 q := fun q hq h9 => by unfold mod0; rw [if_neg (by omega), if_neg h9, hwS q h9 62]; rfl
  have hA9 : mod0 9 = wrdS 62 9 := by funext i; rw [wrdS_9]; rfl
  match o, he, h22 with
  | 0, he, _ => cases he; exact w.2.1
  | 1, he, _ => cases he; rw [hA 1 (by decide) (by decide)]; exact w.2.2.1 1 (by decide) (by decide)
  | 2, he, _ => cases he; rw [hA 2 (by decide) (by decide)]; exact w.2.2.1 2 (by decide) (by decide)
  | 3, he, _ => cases he; rw [hA 3 (by decide) (by decide)]; exact w.2.2.1 3 (by decide) (by decide)
  | 4, he, _ => cases he; rw [hA 4 (by decide) (by decide)]; exact w.2.2.1 4 (by decide) (by decide)
  | 5, he, _ => cases he; rw [hA 5 (by decide) (by decide)]; exact w.2.2.1 5 (by decide) (by decide)
  | 6, he, _ => cases he; rw [hA 6 (by decide) (by decide)]; exact w.2.2.1 6 (by decide) (by decide)
  | 7, he, _ => cases he; rw [hA 7 (by decide) (by decide)]; exact w.2.2.1 7 (by decide) (by decide)
  | 8, he, _ => cases he; rw [hA 8 (by decide) (by decide)]; exact w.2.2.1 8 (by decide) (by decide)
  | 9, he, _ => cases he; rw [hA9]; exact w.2.2.1 9 (by decide) (by decide)
  | 10, he, _ => cases he; rw [hA 10 (by decide) (by decide)]; exact w.2.2.1 10 (by decide) (by decide)
  | 11, he, _ => cases he; rw [hA 11 (by decide) (by decide)]; exact w.2.2.1 11 (by decide) (by decide)
  | 12, he, _ => cases he; rw [hA 12 (by decide) (by decide)]; exact w.2.2.1 12 (by decide) (by decide)
  | 13, he, _ => cases he; rw [hA 13 (by decide) (by decide)]; exact w.2.2.1 13 (by decide) (by decide)
  | 14, he, _ => cases he; rw [hA 14 (by decide) (by decide)]; exact w.2.2.1 14 (by decide) (by decide)
  | 15, he, _ => cases he; rw [hA 15 (by decide) (by decide)]; exact w.2.2.1 15 (by decide) (by decide)
  | 16, he, _ => cases he; rw [hA 16 (by decide) (by decide)]; exact w.2.2.1 16 (by decide) (by decide)
  | 17, he, _ => cases he; rw [hA 17 (by decide) (by decide)]; exact w.2.2.1 17 (by decide) (by decide)
  | 18, he, _ => cases he; rw [hA 18 (by decide) (by decide)]; exact w.2.2.1 18 (by decide) (by decide)
  | 19, he, _ => cases he; rw [hA 19 (by decide) (by decide)]; exact w.2.2.1 19 (by decide) (by decide)
  | 20, he, _ => cases he; rw [hA 20 (by decide) (by decide)]; exact w.2.2.1 20 (by decide) (by decide)
  | 21, he, _ => cases he; rw [hA 21 (by decide) (by decide)]; exact w.2.2.1 21 (by decide) (by decide)
  | 22, he, _ => cases he; rw [hA 22 (by decide) (by decide)]; exact w.2.2.1 22 (by decide) (by decide)
