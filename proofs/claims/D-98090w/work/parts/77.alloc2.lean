set_option maxRecDepth 100000
/-! a reference laid into an array; a static read. -/
section XB
variable {l : Launch} {G : GG} {M : Mth} {rm : Room} {TG : List Frame → Array Value → State → Program → Env → MethodId → Method → Code → State → Prop} {cs ss pc z : Nat} {L : LL} {st st2 : List Value} {h : AH} {pg r0 : List IE} {idx t0 : Nat} {v0 : Int32}
theorem X.aast {C : String} {T : u_T} {N ci a v n j t : Nat} {f : Nat → Option Nat} {vs : List Value} {i : Int32} (hpg : PgOk M pg) (hsk : seek pg pc = (pc, .aastore, 1, v0, t0) :: r0) (ha : h a = some (aR G t n f)) (ht : (TYS G.2.1)[t]? = some (G.2.1 t, .object C)) (hv : h v = some (.inr (ci, vs))) (hc : CL[ci]? = some (C, T, N)) (hi : IX i n j) (hN : G.2.2.1.size ≤ a) (hst : st = .ref v :: .int i :: .ref a :: st2)
    (kk : ∀ h', h' = ahU h a (aR G t n (va_up f j (some v))) → X l G M rm TG cs ss (pc + 1) L st2 h' z) : X l G M rm TG cs ss pc L st h z := by
  intro p e s m args below meth c H locs ls E C0 R hq hl
  subst hst
  obtain ⟨h1, h2⟩ := hi.vp
  have hlt : i.toNatClampNeg < n := Nat.not_le.mp fun q => h1 (Or.inr q)
  have h0 : ¬ i < 0 := fun q => h1 (Or.inl q)
  obtain ⟨r', hr', cellV, g1, g2, g3, -⟩ := R.2.2.2 v _ hv
  have hcls := (C0.K.1 ci _ hc).2
  obtain ⟨kA, comp, k1, k2, k3, -⟩ := (C0.K.2 t _ ht).2
  have hcomp : comp = G.1.1 ci := Option.some.inj (k3.symm.trans hcls.1)
  subst hcomp
  obtain ⟨kC, hkC, -⟩ := hcls.2
  refine W.aast E.1 E.2.1 (R.2.2.2 a _ ha) (fun q h => by cases h) (fun h => by cases h) k1 k2 rfl hkC ⟨h0, by show _ < (arrV _ _ _).slots.size; rw [arrV_size]; exact hlt⟩ g1 (fun q h => by rw [g3] at h; cases h) (by rw [g2]; exact hkC) (by rw [g2]; exact va_assign hcls) rfl rfl (pg_at hpg hsk) fun H1 e1 z1 oq => ?_
  refine kk _ rfl p e s m args below meth c H1 _ ls E C0 (R.set hN ?_ z1 oq) ?_ hl
  · show H1[a]? = some (vp_cell _ _)
    rw [e1]
    rw [vp_cell_q, vp_cell_q, arrV_store, h2]
    congr 2
    funext q
    by_cases hq : q = j
    · subst hq
      simp [updV, va_up, va_rf]
    · simp [updV, va_up, hq]
  · intro q hm
    rcases List.mem_append.mp hm with h | h
    · exact hq q h
    · rw [List.mem_singleton.mp h]; exact hN
/-- what a static holds, all through -/
def Stc (G : GG) (C n d : String) (v : Value) : Prop := ∀ s, Cx G s → va_Z C n d v (fun q => G.2.2.1.size ≤ q) s G.2.2.1
theorem X.gets {C n d : String} {v : Value} (hpg : PgOk M pg) (hsk : seek pg pc = (pc, .getstatic idx, 3, v0, t0) :: r0) (hZ : Stc G C n d v) (hlink : Cond.fieldLink M.1.cls idx C n d ∈ lw_all) (kk : X l G M rm TG cs ss (pc + 3) L (v :: st) h z) : X l G M rm TG cs ss pc L st h z := by
  intro p e s m args below meth c H locs ls E C0 R hq hl
  obtain ⟨cf, kf, fi, f, a, cell, h1, h2, h3, h4, h5, h6, h7, h8⟩ := hZ s C0
  have hlt : a < G.2.2.1.size := (Array.getElem?_eq_some_iff.mp h5).1
  exact W.gets E.1 E.2.1 E.2.2.2.2.2.1 (E.2.2.2.2.2.2.1 _ hlink) h1 h2 h3 h4 (by rw [R.2.2.1 a hlt]; exact h5) (fun e => by rw [e] at h6; cases h6) h7 rfl (pg_at hpg hsk) (kk p e s m args below meth c H locs ls E C0 R hq hl)
theorem stc_list : Stc G "java/util/ArrayList" "DEFAULTCAPACITY_EMPTY_ELEMENTDATA" "[Ljava/lang/Object;" (.ref (G.2.2.2 0)) := by
  intro s h
  obtain ⟨s0, hW, hE⟩ := h.E
  exact va_Z.moved hW.alike hE.1.1
end XB
