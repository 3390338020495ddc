set_option maxRecDepth 100000
/-! THE READER: conditions, tied -/
theorem PCo.up {M : Mth} {f md a o D D' : Nat} (h : PCo M f md a o D) (hD : D ≤ D') : PCo M f md a o D' := fun l G d r z k c F hh P PX h1 h2 => h l G d r z k c F hh P PX h1 (by omega)
theorem r_cond : ∀ (e o : Nat), o + e = 8 → ∀ f, PCo mX4_one f 0 1 o (14 + 3 * e) ∧ PCo mX4_all f 4 2 o (15 + 3 * e) ∧ PCo mX4_any f 3 3 o (16 + 3 * e)
  | 0, o, ho => fun f => by
    have h1 : ∀ f, PCo mX4_one f 0 1 o 14 := fun f => r_one (D := 13) (Nat.le_refl _) (by omega) (fun q => absurd q (by omega)) (fun q => absurd q (by omega))
    have h2 : ∀ f, PCo mX4_all f 4 2 o 15 := fun f => r_all (D := 14) (by omega) (fun f1 _ => h1 f1)
    exact ⟨h1 f, h2 f, r_any (D := 15) (by omega) (fun f1 _ => h2 f1)⟩
  | e + 1, o, ho => fun f => by
    have ih := r_cond e (o + 1) (by omega)
    have h1 : ∀ f, PCo mX4_one f 0 1 o (14 + 3 * (e + 1)) := fun f => (r_one (f := f) (o := o) (D := 16 + 3 * e) (by omega) (by omega) (fun _ f1 _ => (ih f1).1.up (by omega)) (fun _ f1 _ => (ih f1).2.2)).up (by omega)
    have h2 : ∀ f, PCo mX4_all f 4 2 o (15 + 3 * (e + 1)) := fun f => by
      have := r_all (f := f) (o := o) (D := 14 + 3 * (e + 1)) (by omega) (fun f1 _ => h1 f1)
      exact this.up (by omega)
    refine ⟨h1 f, h2 f, ?_⟩
    have := r_any (f := f) (o := o) (D := 15 + 3 * (e + 1)) (by omega) (fun f1 _ => h2 f1)
    exact this.up (by omega)
/-- any() from no open bracket -/
theorem r_any0 {f : Nat} : PCo mX4_any f 3 3 0 40 := (r_cond 8 0 rfl f).2.2
