set_option maxRecDepth 100000
/-! what the making of a Fault stands on holds all through -/
theorem c_and {a b : Cond} {args : Array Value} {s : State} (h : (Cond.and a b).before args s = true) : a.before args s = true ∧ b.before args s = true := by
  simp only [Cond.before, Cond.holds, Cond.value] at h ⊢
  cases ha : a.value args s none s [] with
  | none => rw [ha] at h; simp at h
  | some x => rw [ha] at h; cases hb : b.value args s none s [] with
    | none => rw [hb] at h; cases x <;> simp at h
    | some y => rw [hb] at h; cases x <;> cases y <;> simp_all
theorem all_c {P : Cond → Prop} {a : Cond} {l : List Cond} (h : P a) (t : ∀ x ∈ l, P x) : ∀ x ∈ a :: l, P x := fun x hx => by
  rcases List.mem_cons.mp hx with e | e
  · rw [e]; exact h
  · exact t x e
theorem all_n {P : Cond → Prop} : ∀ x ∈ ([] : List Cond), P x := fun _ h => nomatch h
theorem Cx.fst {G : GG} {s : State} (C : Cx G s) {h : AH} {z : Nat} (R : Rp G h z s.heap) : vx_Zq Bundle.tN "UNASSIGNED_STACK" Bundle.steD (fun q => G.2.2.1.size ≤ q) s s.heap ∧ vx_Zq Bundle.tN "SUPPRESSED_SENTINEL" Bundle.listD (fun q => G.2.2.1.size ≤ q) s s.heap := by
  obtain ⟨s0, b, e0, hW, ht, hn, hK, hE⟩ := C
  have n0 := (c_and hn).2
  have n1 := (c_and (show (Cond.and _ _).before #[Value.ref b] s0 = true from n0)).1
  have n2 := (c_and (show (Cond.and _ _).before #[Value.ref b] s0 = true from n1)).1
  have n3 := (c_and (show (Cond.and _ _).before #[Value.ref b] s0 = true from n2)).1
  have n4 := (c_and (show (Cond.and _ _).before #[Value.ref b] s0 = true from n3)).1
  have n5 := (c_and (show (Cond.and _ _).before #[Value.ref b] s0 = true from n4)).2
  have n6 := (c_and (show (Cond.and _ _).before #[Value.ref b] s0 = true from n5)).2
  have n7 := (c_and (show (Cond.and _ _).before #[Value.ref b] s0 = true from n6)).1
  have n8 := c_and (show (Cond.and _ _).before #[Value.ref b] s0 = true from n7)
  have hA : ∀ a : Nat, a < s0.heap.size → ¬ (fun q => G.2.2.1.size ≤ q) a := fun a ha => by
    show ¬ G.2.2.1.size ≤ a
    rw [e0]; omega
  have i0 : (Cond.initialized Bundle.tN).before #[Value.ref b] s0 = true := ht _ (lw_all_tbl q104)
  have z1 := vx_Zqof (A := fun q => G.2.2.1.size ≤ q) (ht _ q502) i0 n8.1 hA
  have z2 := vx_Zqof (A := fun q => G.2.2.1.size ≤ q) (ht _ q504) i0 n8.2 hA
  have hk : ∀ a : Nat, a < s0.heap.size → ¬ (fun q => G.2.2.1.size ≤ q) a → s.heap[a]? = s0.heap[a]? := fun a ha _ => by
    have := R.2.2.1 a (by rw [e0]; exact ha)
    rw [this, e0]
  exact ⟨(vx_Zq.moved hW.alike z1).kept hk, (vx_Zq.moved hW.alike z2).kept hk⟩
theorem xf_at {G : GG} {s : State} {args : Array Value} (hts : ∀ w ∈ lw_all, w.before args s = true) (C : Cx G s) {h : AH} {z : Nat} (R : Rp G h z s.heap) : ∀ a ∈ xfAtoms, a.before args s = true := by
  obtain ⟨z1, z2⟩ := C.fst R
  have hdec : (Cond.declares (Bundle.init0 Bundle.tN)).before args s = true := va_Nw.use rfl (C.declares q482)
  exact all_c (hts _ q104) (all_c (hts _ q497) (all_c (hts _ q506) (all_c (hts _ q508) (all_c (hts _ q511) (all_c (hts _ q513) (all_c (hts _ q498) (all_c (hts _ q499) (all_c (hts _ q124) (all_c (hts _ q125) (all_c (hts _ q500) (all_c (hts _ q505) (all_c (hts _ q509) (all_c (hts _ q526) (all_c (hts _ q487) (all_c (hts _ q527) (all_c (hts _ q489) (all_c (hts _ q528) (all_c (hts _ q491) (all_c (hts _ q501) (all_c z1.2.word (all_c (hts _ q503) (all_c z2.2.word (all_c (hts _ q493) (all_c (hts _ q518) (all_c (hts _ q519) (all_c (hts _ q520) (all_c (hts _ q498) (all_c hdec (all_c (hts _ q517) (all_c (hts _ q478) (all_c (hts _ q484) (all_c (hts _ q485) (all_c (hts _ q486) (all_c (hts _ q488) (all_c (hts _ q490) (all_c (hts _ q492) (all_c (vx_isRefq z1.1) (all_c (vx_isRefq z2.1) (all_c (hts _ q496) (all_c (hts _ q495) (all_c (hts _ q494) all_n)))))))))))))))))))))))))))))))))))))))))
