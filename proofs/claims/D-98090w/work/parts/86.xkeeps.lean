set_option maxRecDepth 100000
/-! THE CLASS: switches, the tape, what is kept, what is undone, acts -/
theorem wC_pp {G : GG} {b law p : Nat} {S : Nat → Nat → Int32} (h : p < 6) : wC G b S law (113 + 2 * p) = some (.inr (2, pF b S (113 + 2 * p))) := by
  unfold wC
  rw [(wK_p h).1]
  rfl
theorem ahU_2 {h : AH} {a : Nat} {e e' : va_E} : ahU (ahU h a e) a e' = ahU h a e' := by
  funext q
  unfold ahU
  by_cases k : q = a
  · rw [if_pos k, if_pos k]
  · rw [if_neg k, if_neg k, if_neg k]
theorem capsM_eq {W : XW} {M : SS} (r : RelX W M) : capsM M = capsN (W.S 0) 64 := by
  unfold capsM
  rw [foldN_congr (q := fun k => capB (W.S 0) (nI k)) (g' := fun _ x => x + 1) (fun k hk => (r.cap hk).symm) (fun _ _ _ _ => rfl)]
  exact fold_sum (q := capsN (W.S 0)) rfl (fun k _ => rfl)
theorem RelX.fu {W : XW} {M : SS} (r : RelX W M) : W.F 8 = M 0 3 := by
  obtain ⟨u, -, h1, h2, -⟩ := r.u
  rw [h1, h2]
theorem x_look : CtS mX0_look (5) (xR1 (fun (M : SS) w W => RelX W M) (fun (M : SS) w W => lookM M w)) := by
  intro l G d hd as h z Q hs
  match as, hs with
  | [.ref b, .int w], hs =>
    obtain ⟨W, M, hx, hp, hs⟩ := hs
    replace hp : RelX W M := hp
    replace hs : ∀ r9, r9 = lookM M w → Q (some (.int r9)) h := hs
    have hf : FrX b h h := FrX.rf
    refine Ct.of rfl (Nat.le_of_ble_eq_true rfl) rfl ?_
    refine X.w wkX0_look (fcons (ceV c_size moSize ckX0_70 rfl rcSize (by omega) rfl) (fcons (ceV c_caps moW0 ckX0_260 rfl rcW0 (by omega) rfl) fnil)) [] 3 rfl ?_
    rcases sw_case w 22 (by decide) with ⟨k, hk, rfl⟩ | ⟨ho, hn⟩
    · match k, hk with
      | 0, _ =>
        refine X.tswIn wkX0_look.2.2.2 rfl (by decide +kernel) (by decide +kernel) (by decide +kernel) (off := 107) (tgt := 108) (by decide) ?_
        refine X.w wkX0_look (fcons (ceV c_size moSize ckX0_70 rfl rcSize (by omega) rfl) (fcons (ceV c_caps moW0 ckX0_260 rfl rcW0 (by omega) rfl) fnil)) [] 5 rfl ?_
        refine gF (by first | assumption | exact hx.obj | exact hx.bk | exact hx.rs | exact hx.sp | exact hx.tp | exact hx.w0.obj | exact hx.w0.arr _ rfl) ?_
        refine gF (by first | assumption | exact hx.obj | exact hx.bk | exact hx.rs | exact hx.sp | exact hx.tp | exact hx.w0.obj | exact hx.w0.arr _ rfl) ?_
        exact And.intro (hs _ (by unfold lookM; rw [if_pos (by decide)]; exact (hp.w.2.2.2.1 0).symm)) rfl
      | 1, _ =>
        refine X.tswIn wkX0_look.2.2.2 rfl (by decide +kernel) (by decide +kernel) (by decide +kernel) (off := 115) (tgt := 116) (by decide) ?_
        refine X.w wkX0_look (fcons (ceV c_size moSize ckX0_70 rfl rcSize (by omega) rfl) (fcons (ceV c_caps moW0 ckX0_260 rfl rcW0 (by omega) rfl) fnil)) [] 5 rfl ?_
        refine gF (by first | assumption | exact hx.obj | exact hx.bk | exact hx.rs | exact hx.sp | exact hx.tp | exact hx.w0.obj | exact hx.w0.arr _ rfl) ?_
        refine gF (by first | assumption | exact hx.obj | exact hx.bk | exact hx.rs | exact hx.sp | exact hx.tp | exact hx.w0.obj | exact hx.w0.arr _ rfl) ?_
        exact And.intro (hs _ (by unfold lookM; rw [if_neg (by decide), if_pos (by decide)]; exact (hp.w.2.2.2.1 1).symm)) rfl
      | 2, _ =>
        refine X.tswIn wkX0_look.2.2.2 rfl (by decide +kernel) (by decide +kernel) (by decide +kernel) (off := 123) (tgt := 124) (by decide) ?_
        refine X.w wkX0_look (fcons (ceV c_size moSize ckX0_70 rfl rcSize (by omega) rfl) (fcons (ceV c_caps moW0 ckX0_260 rfl rcW0 (by omega) rfl) fnil)) [] 5 rfl ?_
        refine gF (by first | assumption | exact hx.obj | exact hx.bk | exact hx.rs | exact hx.sp | exact hx.tp | exact hx.w0.obj | exact hx.w0.arr _ rfl) ?_
        refine gF (by first | assumption | exact hx.obj | exact hx.bk | exact hx.rs | exact hx.sp | exact hx.tp | exact hx.w0.obj | exact hx.w0.arr _ rfl) ?_
        exact And.intro (hs _ (by unfold lookM; rw [if_neg (by decide), if_neg (by decide), if_pos (by decide)]; exact (hp.w.2.2.2.1 2).symm)) rfl
      | 3, _ =>
        refine X.tswIn wkX0_look.2.2.2 rfl (by decide +kernel) (by decide +kernel) (by decide +kernel) (off := 131) (tgt := 132) (by decide) ?_
        refine X.w wkX0_look (fcons (ceV c_size moSize ckX0_70 rfl rcSize (by omega) rfl) (fcons (ceV c_caps moW0 ckX0_260 rfl rcW0 (by omega) rfl) fnil)) [] 5 rfl ?_
        refine gF (by first | assumption | exact hx.obj | exact hx.bk | exact hx.rs | exact hx.sp | exact hx.tp | exact hx.w0.obj | exact hx.w0.arr _ rfl) ?_
        refine gF (by first | assumption | exact hx.obj | exact hx.bk | exact hx.rs | exact hx.sp | exact hx.tp | exact hx.w0.obj | exact hx.w0.arr _ rfl) ?_
        exact And.intro (hs _ (by unfold lookM; rw [if_neg (by decide), if_neg (by decide), if_neg (by decide), if_pos (by decide)]; exact (hp.w.2.2.2.1 3).symm)) rfl
      | 4, _ =>
        refine X.tswIn wkX0_look.2.2.2 rfl (by decide +kernel) (by decide +kernel) (by decide +kernel) (off := 139) (tgt := 140) (by decide) ?_
        refine X.w wkX0_look (fcons (ceV c_size moSize ckX0_70 rfl rcSize (by omega) rfl) (fcons (ceV c_caps moW0 ckX0_260 rfl rcW0 (by omega) rfl) fnil)) [] 5 rfl ?_
        refine gF (by first | assumption | exact hx.obj | exact hx.bk | exact hx.rs | exact hx.sp | exact hx.tp | exact hx.w0.obj | exact hx.w0.arr _ rfl) ?_
        refine gF (by first | assumption | exact hx.obj | exact hx.bk | exact hx.rs | exact hx.sp | exact hx.tp | exact hx.w0.obj | exact hx.w0.arr _ rfl) ?_
        exact And.intro (hs _ (by unfold lookM; rw [if_neg (by decide), if_neg (by decide), if_neg (by decide), if_neg (by decide), if_pos (by decide)]; exact (hp.w.2.2.2.1 4).symm)) rfl
      | 5, _ =>
        refine X.tswIn wkX0_look.2.2.2 rfl (by decide +kernel) (by decide +kernel) (by decide +kernel) (off := 147) (tgt := 148) (by decide) ?_
        refine X.w wkX0_look (fcons (ceV c_size moSize ckX0_70 rfl rcSize (by omega) rfl) (fcons (ceV c_caps moW0 ckX0_260 rfl rcW0 (by omega) rfl) fnil)) [] 5 rfl ?_
        refine gF (by first | assumption | exact hx.obj | exact hx.bk | exact hx.rs | exact hx.sp | exact hx.tp | exact hx.w0.obj | exact hx.w0.arr _ rfl) ?_
        refine Exists.intro _ (Exists.intro _ (And.intro hx.w0 ?_))
        intro v152 e152
        exact And.intro (hs _ (by unfold lookM; rw [if_neg (by decide), if_neg (by decide), if_neg (by decide), if_neg (by decide), if_neg (by decide), if_pos (by decide)]; exact e152.trans (capsM_eq hp).symm)) rfl
      | 6, _ =>
        refine X.tswIn wkX0_look.2.2.2 rfl (by decide +kernel) (by decide +kernel) (by decide +kernel) (off := 155) (tgt := 156) (by decide) ?_
        refine X.w wkX0_look (fcons (ceV c_size moSize ckX0_70 rfl rcSize (by omega) rfl) (fcons (ceV c_caps moW0 ckX0_260 rfl rcW0 (by omega) rfl) fnil)) [] 5 rfl ?_
        refine gF (by first | assumption | exact hx.obj | exact hx.bk | exact hx.rs | exact hx.sp | exact hx.tp | exact hx.w0.obj | exact hx.w0.arr _ rfl) ?_
        refine gF (by first | assumption | exact hx.obj | exact hx.bk | exact hx.rs | exact hx.sp | exact hx.tp | exact hx.w0.obj | exact hx.w0.arr _ rfl) ?_
        exact And.intro (hs _ (by unfold lookM; rw [if_neg (by decide), if_neg (by decide), if_neg (by decide), if_neg (by decide), if_neg (by decide), if_neg (by decide), if_pos (by decide)]; exact (hp.w.2.2.1 0).symm)) rfl
      | 7, _ =>
        refine X.tswIn wkX0_look.2.2.2 rfl (by decide +kernel) (by decide +kernel) (by decide +kernel) (off := 163) (tgt := 164) (by decide) ?_
        refine X.w wkX0_look (fcons (ceV c_size moSize ckX0_70 rfl rcSize (by omega) rfl) (fcons (ceV c_caps moW0 ckX0_260 rfl rcW0 (by omega) rfl) fnil)) [] 5 rfl ?_
        refine gF (by first | assumption | exact hx.obj | exact hx.bk | exact hx.rs | exact hx.sp | exact hx.tp | exact hx.w0.obj | exact hx.w0.arr _ rfl) ?_
        refine gF (by first | assumption | exact hx.obj | exact hx.bk | exact hx.rs | exact hx.sp | exact hx.tp | exact hx.w0.obj | exact hx.w0.arr _ rfl) ?_
        exact And.intro (hs _ (by unfold lookM; rw [if_neg (by decide), if_neg (by decide), if_neg (by decide), if_neg (by decide), if_neg (by decide), if_neg (by decide), if_neg (by decide), if_pos (by decide)]; exact (hp.w.2.2.2.1 5).symm)) rfl
      | 8, _ =>
        refine X.tswIn wkX0_look.2.2.2 rfl (by decide +kernel) (by decide +kernel) (by decide +kernel) (off := 171) (tgt := 172) (by decide) ?_
        refine X.w wkX0_look (fcons (ceV c_size moSize ckX0_70 rfl rcSize (by omega) rfl) (fcons (ceV c_caps moW0 ckX0_260 rfl rcW0 (by omega) rfl) fnil)) [] 5 rfl ?_
        refine gF (by first | assumption | exact hx.obj | exact hx.bk | exact hx.rs | exact hx.sp | exact hx.tp | exact hx.w0.obj | exact hx.w0.arr _ rfl) ?_
        refine gF (by first | assumption | exact hx.obj | exact hx.bk | exact hx.rs | exact hx.sp | exact hx.tp | exact hx.w0.obj | exact hx.w0.arr _ rfl) ?_
        exact And.intro (hs _ (by unfold lookM; rw [if_neg (by decide), if_neg (by decide), if_neg (by decide), if_neg (by decide), if_neg (by decide), if_neg (by decide), if_neg (by decide), if_neg (by decide), if_pos (by decide)]; exact (hp.w.2.2.2.1 6).symm)) rfl
      | 9, _ =>
        refine X.tswIn wkX0_look.2.2.2 rfl (by decide +kernel) (by decide +kernel) (by decide +kernel) (off := 179) (tgt := 180) (by decide) ?_
        refine X.w wkX0_look (fcons (ceV c_size moSize ckX0_70 rfl rcSize (by omega) rfl) (fcons (ceV c_caps moW0 ckX0_260 rfl rcW0 (by omega) rfl) fnil)) [] 5 rfl ?_
        refine gF (by first | assumption | exact hx.obj | exact hx.bk | exact hx.rs | exact hx.sp | exact hx.tp | exact hx.w0.obj | exact hx.w0.arr _ rfl) ?_
        refine gF (by first | assumption | exact hx.obj | exact hx.bk | exact hx.rs | exact hx.sp | exact hx.tp | exact hx.w0.obj | exact hx.w0.arr _ rfl) ?_
        exact And.intro (hs _ (by unfold lookM; rw [if_neg (by decide), if_neg (by decide), if_neg (by decide), if_neg (by decide), if_neg (by decide), if_neg (by decide), if_neg (by decide), if_neg (by decide), if_neg (by decide), if_pos (by decide)]; exact (hp.w.2.2.1 1).symm)) rfl
      | 10, _ =>
        refine X.tswIn wkX0_look.2.2.2 rfl (by decide +kernel) (by decide +kernel) (by decide +kernel) (off := 187) (tgt := 188) (by decide) ?_
        obtain ⟨mc10, ea10, hl10, -, -⟩ := hx.law (j := 0) (by decide)
        refine X.w wkX0_look (fcons (ceV c_size moSize ckX0_70 rfl rcSize (by omega) rfl) (fcons (ceV c_caps moW0 ckX0_260 rfl rcW0 (by omega) rfl) fnil)) [] 6 rfl ?_
        refine gF (by first | assumption | exact hx.obj | exact hx.bk | exact hx.rs | exact hx.sp | exact hx.tp | exact hx.w0.obj | exact hx.w0.arr _ rfl) ?_
        refine gF (by first | assumption | exact hx.obj | exact hx.bk | exact hx.rs | exact hx.sp | exact hx.tp | exact hx.w0.obj | exact hx.w0.arr _ rfl) ?_
        refine Exists.intro _ (Exists.intro _ (Exists.intro _ (And.intro hl10 ?_)))
        exact And.intro (hs _ (by unfold lookM; rw [if_neg (by decide), if_neg (by decide), if_neg (by decide), if_neg (by decide), if_neg (by decide), if_neg (by decide), if_neg (by decide), if_neg (by decide), if_neg (by decide), if_neg (by decide), if_pos (by decide)]; exact hp.w.2.2.2.2.1.symm)) rfl
      | 11, _ =>
        refine X.tswIn wkX0_look.2.2.2 rfl (by decide +kernel) (by decide +kernel) (by decide +kernel) (off := 198) (tgt := 199) (by decide) ?_
        refine X.w wkX0_look (fcons (ceV c_size moSize ckX0_70 rfl rcSize (by omega) rfl) (fcons (ceV c_caps moW0 ckX0_260 rfl rcW0 (by omega) rfl) fnil)) [] 4 rfl ?_
        refine gF (by first | assumption | exact hx.obj | exact hx.bk | exact hx.rs | exact hx.sp | exact hx.tp | exact hx.w0.obj | exact hx.w0.arr _ rfl) ?_
        exact And.intro (hs _ (by unfold lookM; rw [if_neg (by decide), if_neg (by decide), if_neg (by decide), if_neg (by decide), if_neg (by decide), if_neg (by decide), if_neg (by decide), if_neg (by decide), if_neg (by decide), if_neg (by decide), if_neg (by decide), if_pos (by decide)]; exact hp.fu)) rfl
      | 12, _ =>
        refine X.tswIn wkX0_look.2.2.2 rfl (by decide +kernel) (by decide +kernel) (by decide +kernel) (off := 227) (tgt := 228) (by decide) ?_
        refine X.w wkX0_look (fcons (ceV c_size moSize ckX0_70 rfl rcSize (by omega) rfl) (fcons (ceV c_caps moW0 ckX0_260 rfl rcW0 (by omega) rfl) fnil)) [] 3 rfl ?_
        exact And.intro (hs _ (by unfold lookM; rw [if_neg (by decide), if_neg (by decide), if_neg (by decide), if_neg (by decide), if_neg (by decide), if_neg (by decide), if_neg (by decide), if_neg (by decide), if_neg (by decide), if_neg (by decide), if_neg (by decide), if_neg (by decide), if_neg (by decide), if_neg (by decide), if_neg (by decide)])) rfl
      | 13, _ =>
        refine X.tswIn wkX0_look.2.2.2 rfl (by decide +kernel) (by decide +kernel) (by decide +kernel) (off := 227) (tgt := 228) (by decide) ?_
        refine X.w wkX0_look (fcons (ceV c_size moSize ckX0_70 rfl rcSize (by omega) rfl) (fcons (ceV c_caps moW0 ckX0_260 rfl rcW0 (by omega) rfl) fnil)) [] 3 rfl ?_
        exact And.intro (hs _ (by unfold lookM; rw [if_neg (by decide), if_neg (by decide), if_neg (by decide), if_neg (by decide), if_neg (by decide), if_neg (by decide), if_neg (by decide), if_neg (by decide), if_neg (by decide), if_neg (by decide), if_neg (by decide), if_neg (by decide), if_neg (by decide), if_neg (by decide), if_neg (by decide)])) rfl
      | 14, _ =>
        refine X.tswIn wkX0_look.2.2.2 rfl (by decide +kernel) (by decide +kernel) (by decide +kernel) (off := 227) (tgt := 228) (by decide) ?_
        refine X.w wkX0_look (fcons (ceV c_size moSize ckX0_70 rfl rcSize (by omega) rfl) (fcons (ceV c_caps moW0 ckX0_260 rfl rcW0 (by omega) rfl) fnil)) [] 3 rfl ?_
        exact And.intro (hs _ (by unfold lookM; rw [if_neg (by decide), if_neg (by decide), if_neg (by decide), if_neg (by decide), if_neg (by decide), if_neg (by decide), if_neg (by decide), if_neg (by decide), if_neg (by decide), if_neg (by decide), if_neg (by decide), if_neg (by decide), if_neg (by decide), if_neg (by decide), if_neg (by decide)])) rfl
      | 15, _ =>
        refine X.tswIn wkX0_look.2.2.2 rfl (by decide +kernel) (by decide +kernel) (by decide +kernel) (off := 227) (tgt := 228) (by decide) ?_
        refine X.w wkX0_look (fcons (ceV c_size moSize ckX0_70 rfl rcSize (by omega) rfl) (fcons (ceV c_caps moW0 ckX0_260 rfl rcW0 (by omega) rfl) fnil)) [] 3 rfl ?_
        exact And.intro (hs _ (by unfold lookM; rw [if_neg (by decide), if_neg (by decide), if_neg (by decide), if_neg (by decide), if_neg (by decide), if_neg (by decide), if_neg (by decide), if_neg (by decide), if_neg (by decide), if_neg (by decide), if_neg (by decide), if_neg (by decide), if_neg (by decide), if_neg (by decide), if_neg (by decide)])) rfl
      | 16, _ =>
        refine X.tswIn wkX0_look.2.2.2 rfl (by decide +kernel) (by decide +kernel) (by decide +kernel) (off := 227) (tgt := 228) (by decide) ?_
        refine X.w wkX0_look (fcons (ceV c_size moSize ckX0_70 rfl rcSize (by omega) rfl) (fcons (ceV c_caps moW0 ckX0_260 rfl rcW0 (by omega) rfl) fnil)) [] 3 rfl ?_
        exact And.intro (hs _ (by unfold lookM; rw [if_neg (by decide), if_neg (by decide), if_neg (by decide), if_neg (by decide), if_neg (by decide), if_neg (by decide), if_neg (by decide), if_neg (by decide), if_neg (by decide), if_neg (by decide), if_neg (by decide), if_neg (by decide), if_neg (by decide), if_neg (by decide), if_neg (by decide)])) rfl
      | 17, _ =>
        refine X.tswIn wkX0_look.2.2.2 rfl (by decide +kernel) (by decide +kernel) (by decide +kernel) (off := 227) (tgt := 228) (by decide) ?_
        refine X.w wkX0_look (fcons (ceV c_size moSize ckX0_70 rfl rcSize (by omega) rfl) (fcons (ceV c_caps moW0 ckX0_260 rfl rcW0 (by omega) rfl) fnil)) [] 3 rfl ?_
        exact And.intro (hs _ (by unfold lookM; rw [if_neg (by decide), if_neg (by decide), if_neg (by decide), if_neg (by decide), if_neg (by decide), if_neg (by decide), if_neg (by decide), if_neg (by decide), if_neg (by decide), if_neg (by decide), if_neg (by decide), if_neg (by decide), if_neg (by decide), if_neg (by decide), if_neg (by decide)])) rfl
      | 18, _ =>
        refine X.tswIn wkX0_look.2.2.2 rfl (by decide +kernel) (by decide +kernel) (by decide +kernel) (off := 227) (tgt := 228) (by decide) ?_
        refine X.w wkX0_look (fcons (ceV c_size moSize ckX0_70 rfl rcSize (by omega) rfl) (fcons (ceV c_caps moW0 ckX0_260 rfl rcW0 (by omega) rfl) fnil)) [] 3 rfl ?_
        exact And.intro (hs _ (by unfold lookM; rw [if_neg (by decide), if_neg (by decide), if_neg (by decide), if_neg (by decide), if_neg (by decide), if_neg (by decide), if_neg (by decide), if_neg (by decide), if_neg (by decide), if_neg (by decide), if_neg (by decide), if_neg (by decide), if_neg (by decide), if_neg (by decide), if_neg (by decide)])) rfl
      | 19, _ =>
        refine X.tswIn wkX0_look.2.2.2 rfl (by decide +kernel) (by decide +kernel) (by decide +kernel) (off := 227) (tgt := 228) (by decide) ?_
        refine X.w wkX0_look (fcons (ceV c_size moSize ckX0_70 rfl rcSize (by omega) rfl) (fcons (ceV c_caps moW0 ckX0_260 rfl rcW0 (by omega) rfl) fnil)) [] 3 rfl ?_
        exact And.intro (hs _ (by unfold lookM; rw [if_neg (by decide), if_neg (by decide), if_neg (by decide), if_neg (by decide), if_neg (by decide), if_neg (by decide), if_neg (by decide), if_neg (by decide), if_neg (by decide), if_neg (by decide), if_neg (by decide), if_neg (by decide), if_neg (by decide), if_neg (by decide), if_neg (by decide)])) rfl
      | 20, _ =>
        refine X.tswIn wkX0_look.2.2.2 rfl (by decide +kernel) (by decide +kernel) (by decide +kernel) (off := 203) (tgt := 204) (by decide) ?_
        refine X.w wkX0_look (fcons (ceV c_size moSize ckX0_70 rfl rcSize (by omega) rfl) (fcons (ceV c_caps moW0 ckX0_260 rfl rcW0 (by omega) rfl) fnil)) [] 5 rfl ?_
        refine gF (by first | assumption | exact hx.obj | exact hx.bk | exact hx.rs | exact hx.sp | exact hx.tp | exact hx.w0.obj | exact hx.w0.arr _ rfl) ?_
        refine gF (by first | assumption | exact hx.obj | exact hx.bk | exact hx.rs | exact hx.sp | exact hx.tp | exact hx.w0.obj | exact hx.w0.arr _ rfl) ?_
        exact And.intro (hs _ (by unfold lookM; rw [if_neg (by decide), if_neg (by decide), if_neg (by decide), if_neg (by decide), if_neg (by decide), if_neg (by decide), if_neg (by decide), if_neg (by decide), if_neg (by decide), if_neg (by decide), if_neg (by decide), if_neg (by decide), if_pos (by decide)]; exact (hp.w.2.2.2.1 7).symm)) rfl
      | 21, _ =>
        refine X.tswIn wkX0_look.2.2.2 rfl (by decide +kernel) (by decide +kernel) (by decide +kernel) (off := 211) (tgt := 212) (by decide) ?_
        refine X.w wkX0_look (fcons (ceV c_size moSize ckX0_70 rfl rcSize (by omega) rfl) (fcons (ceV c_caps moW0 ckX0_260 rfl rcW0 (by omega) rfl) fnil)) [] 5 rfl ?_
        refine gF (by first | assumption | exact hx.obj | exact hx.bk | exact hx.rs | exact hx.sp | exact hx.tp | exact hx.w0.obj | exact hx.w0.arr _ rfl) ?_
        refine gF (by first | assumption | exact hx.obj | exact hx.bk | exact hx.rs | exact hx.sp | exact hx.tp | exact hx.w0.obj | exact hx.w0.arr _ rfl) ?_
        exact And.intro (hs _ (by unfold lookM; rw [if_neg (by decide), if_neg (by decide), if_neg (by decide), if_neg (by decide), if_neg (by decide), if_neg (by decide), if_neg (by decide), if_neg (by decide), if_neg (by decide), if_neg (by decide), if_neg (by decide), if_neg (by decide), if_neg (by decide), if_pos (by decide)]; exact (hp.w.2.2.2.1 8).symm)) rfl
      | 22, _ =>
        refine X.tswIn wkX0_look.2.2.2 rfl (by decide +kernel) (by decide +kernel) (by decide +kernel) (off := 219) (tgt := 220) (by decide) ?_
        refine X.w wkX0_look (fcons (ceV c_size moSize ckX0_70 rfl rcSize (by omega) rfl) (fcons (ceV c_caps moW0 ckX0_260 rfl rcW0 (by omega) rfl) fnil)) [] 5 rfl ?_
        refine gF (by first | assumption | exact hx.obj | exact hx.bk | exact hx.rs | exact hx.sp | exact hx.tp | exact hx.w0.obj | exact hx.w0.arr _ rfl) ?_
        refine gF (by first | assumption | exact hx.obj | exact hx.bk | exact hx.rs | exact hx.sp | exact hx.tp | exact hx.w0.obj | exact hx.w0.arr _ rfl) ?_
        exact And.intro (hs _ (by unfold lookM; rw [if_neg (by decide), if_neg (by decide), if_neg (by decide), if_neg (by decide), if_neg (by decide), if_neg (by decide), if_neg (by decide), if_neg (by decide), if_neg (by decide), if_neg (by decide), if_neg (by decide), if_neg (by decide), if_neg (by decide), if_neg (by decide), if_pos (by decide)]; exact (hp.w.2.2.2.1 9).symm)) rfl
      | k + 23, hk => exact absurd hk (by omega)
    · refine X.tswOut wkX0_look.2.2.2 rfl ho (tgt := 228) (by decide) ?_
      refine X.w wkX0_look (fcons (ceV c_size moSize ckX0_70 rfl rcSize (by omega) rfl) (fcons (ceV c_caps moW0 ckX0_260 rfl rcW0 (by omega) rfl) fnil)) [] 3 rfl ?_
      exact And.intro (hs _ (by unfold lookM; rw [if_neg (show ¬ w = 0 from hn 0 (by decide)), if_neg (show ¬ w = 1 from hn 1 (by decide)), if_neg (show ¬ w = 2 from hn 2 (by decide)), if_neg (show ¬ w = 3 from hn 3 (by decide)), if_neg (show ¬ w = 4 from hn 4 (by decide)), if_neg (show ¬ w = 5 from hn 5 (by decide)), if_neg (show ¬ w = 6 from hn 6 (by decide)), if_neg (show ¬ w = 7 from hn 7 (by decide)), if_neg (show ¬ w = 8 from hn 8 (by decide)), if_neg (show ¬ w = 9 from hn 9 (by decide)), if_neg (show ¬ w = 10 from hn 10 (by decide)), if_neg (show ¬ w = 11 from hn 11 (by decide)), if_neg (show ¬ w = 20 from hn 20 (by decide)), if_neg (show ¬ w = 21 from hn 21 (by decide)), if_neg (show ¬ w = 22 from hn 22 (by decide))])) rfl
theorem RelX.pp {W : XW} {M : SS} (r : RelX W M) {q : Int32} (h : psX W q = true) : ∃ k, k < gN (W.S 0 0 16) ∧ k < 6 ∧ q = nI k ∧ gN q = k := isIn_predI (r.w.1 4) (by decide) h
theorem RelX.pc {W : XW} {M : SS} (r : RelX W M) {k : Nat} (h : k < gN (W.S 0 0 16)) : M 1 (256 + k) = W.S 0 (113 + 2 * k) 1 := r.w.2.2.1 6 k h
theorem RelX.pk {W : XW} {M : SS} (r : RelX W M) {k : Nat} (h : k < gN (W.S 0 0 16)) : M 1 (262 + k) = W.S 0 (113 + 2 * k) 2 := r.w.2.2.1 7 k h
theorem RelX.pz {W : XW} {M : SS} (r : RelX W M) {k : Nat} (h : k < gN (W.S 0 0 16)) : M 1 (268 + k) = W.S 0 (113 + 2 * k) 3 := r.w.2.2.1 8 k h
theorem RelX.pb {W : XW} {M : SS} (r : RelX W M) {k w : Nat} (h : k < gN (W.S 0 0 16)) (hw : w < 12) : M 1 (274 + 12 * k + w) = W.S 0 (113 + 2 * k + 1) w := r.w.2.2.1 9 k w h hw
theorem bask_ix {y w : Int32} (h : Bd 12 y) (hi : isInB w 10 (9 + y) = true) : ∃ j, j < 12 ∧ w - 10 = nI j ∧ gN (w - 10) = j := by
  have h1 := isInB_t.mp hi
  obtain ⟨n, hn, rfl⟩ := nI_of (x := w) (by rw [Int32.not_lt]; exact Int32.le_trans (by decide) h1.1)
  have h2 := h1.2
  have h3 := h.2
  rw [h.1, show (9 : Int32) = nI 9 from rfl, nI_add, nI_leI hn (by omega)] at h2
  have h4 : 10 ≤ n := (nI_leI (a := 10) (by decide) hn).mp h1.1
  refine ⟨n - 10, by omega, ?_, ?_⟩
  · rw [show (10 : Int32) = nI 10 from rfl, pk_sub h4]
  · rw [show (10 : Int32) = nI 10 from rfl, pk_sub h4, gN_nI (by omega)]
theorem x_of : CtS mX0_of (3) (xR2 (fun (M : SS) q w W => RelX W M) (fun (M : SS) q w W => ofM M q w)) := by
  intro l G d hd as h z Q hs
  match as, hs with
  | [.ref b, .int q, .int w], hs =>
    obtain ⟨W, M, hx, hp, hs⟩ := hs
    replace hp : RelX W M := hp
    replace hs : ∀ r9, r9 = ofM M q w → Q (some (.int r9)) h := hs
    have hf : FrX b h h := FrX.rf
    refine Ct.of rfl (Nat.le_of_ble_eq_true rfl) rfl ?_
    refine X.w wkX0_of (fcons (ceS c_isIn mo3 ckX0_50 (by omega) rfl) (fcons (ceV x_isPerson xmR1 ckX0_147 rfl xrR1 (by omega) rfl) fnil)) [] 13 rfl ?_
    refine Exists.intro _ (Exists.intro () (And.intro hx (And.intro trivial ?_)))
    intro v2 e2
    subst e2
    refine And.intro (fun b5 => ?_) (fun b5 => ?_)
    · simp only [cP, cN, bI_0, Bool.not_eq_false, lt_nle, Decidable.not_not] at b5
      obtain ⟨k, hk, hk6, rfl, hg⟩ := hp.pp b5
      have hps : psB M (nI k) = true := by rw [hp.ps]; exact b5
      refine gF (by first | assumption | exact hx.w0.arr _ (wC_pp hk6) | exact hx.w0.arr _ (wC_bask hk6) | exact hx.obj | exact hx.bk | exact hx.rs | exact hx.sp | exact hx.tp | exact hx.w0.obj | exact hx.w0.arr _ rfl) ?_
      refine gF (by first | assumption | exact hx.w0.arr _ (wC_pp hk6) | exact hx.w0.arr _ (wC_bask hk6) | exact hx.obj | exact hx.bk | exact hx.rs | exact hx.sp | exact hx.tp | exact hx.w0.obj | exact hx.w0.arr _ rfl) ?_
      refine gR (by first | assumption | exact hx.w0.arr _ (wC_pp hk6) | exact hx.w0.arr _ (wC_bask hk6) | exact hx.obj | exact hx.bk | exact hx.rs | exact hx.sp | exact hx.tp | exact hx.w0.obj | exact hx.w0.arr _ rfl) (by decide) (by first | exact ixN (by omega) (by decide) | exact ixz (by omega) (by decide)) (by exact rfl) ?_
      rcases sw_case w 2 (by decide) with ⟨k9, hk9, rfl⟩ | ⟨ho, hn⟩
      · match k9, hk9 with
        | 0, _ =>
          refine X.tswIn wkX0_of.2.2.2 rfl (by decide +kernel) (by decide +kernel) (by decide +kernel) (off := 27) (tgt := 48) (by decide) ?_
          refine X.w wkX0_of (fcons (ceS c_isIn mo3 ckX0_50 (by omega) rfl) (fcons (ceV x_isPerson xmR1 ckX0_147 rfl xrR1 (by omega) rfl) fnil)) [] 4 rfl ?_
          refine gF (by first | assumption | exact hx.w0.arr _ (wC_pp hk6) | exact hx.w0.arr _ (wC_bask hk6) | exact hx.obj | exact hx.bk | exact hx.rs | exact hx.sp | exact hx.tp | exact hx.w0.obj | exact hx.w0.arr _ rfl) ?_
          exact And.intro (hs _ (by unfold ofM; rw [if_pos hps, hg, if_pos (by decide), hp.pc hk])) rfl
        | 1, _ =>
          refine X.tswIn wkX0_of.2.2.2 rfl (by decide +kernel) (by decide +kernel) (by decide +kernel) (off := 32) (tgt := 53) (by decide) ?_
          refine X.w wkX0_of (fcons (ceS c_isIn mo3 ckX0_50 (by omega) rfl) (fcons (ceV x_isPerson xmR1 ckX0_147 rfl xrR1 (by omega) rfl) fnil)) [] 4 rfl ?_
          refine gF (by first | assumption | exact hx.w0.arr _ (wC_pp hk6) | exact hx.w0.arr _ (wC_bask hk6) | exact hx.obj | exact hx.bk | exact hx.rs | exact hx.sp | exact hx.tp | exact hx.w0.obj | exact hx.w0.arr _ rfl) ?_
          exact And.intro (hs _ (by unfold ofM; rw [if_pos hps, hg, if_neg (by decide), if_pos (by decide), hp.pk hk])) rfl
        | 2, _ =>
          refine X.tswIn wkX0_of.2.2.2 rfl (by decide +kernel) (by decide +kernel) (by decide +kernel) (off := 37) (tgt := 58) (by decide) ?_
          refine X.w wkX0_of (fcons (ceS c_isIn mo3 ckX0_50 (by omega) rfl) (fcons (ceV x_isPerson xmR1 ckX0_147 rfl xrR1 (by omega) rfl) fnil)) [] 4 rfl ?_
          refine gF (by first | assumption | exact hx.w0.arr _ (wC_pp hk6) | exact hx.w0.arr _ (wC_bask hk6) | exact hx.obj | exact hx.bk | exact hx.rs | exact hx.sp | exact hx.tp | exact hx.w0.obj | exact hx.w0.arr _ rfl) ?_
          exact And.intro (hs _ (by unfold ofM; rw [if_pos hps, hg, if_neg (by decide), if_neg (by decide), if_pos (by decide), hp.pz hk])) rfl
      · refine X.tswOut wkX0_of.2.2.2 rfl ho (tgt := 63) (by decide) ?_
        refine X.w wkX0_of (fcons (ceS c_isIn mo3 ckX0_50 (by omega) rfl) (fcons (ceV x_isPerson xmR1 ckX0_147 rfl xrR1 (by omega) rfl) fnil)) [] 18 rfl ?_
        refine gF (by first | assumption | exact hx.w0.arr _ (wC_pp hk6) | exact hx.w0.arr _ (wC_bask hk6) | exact hx.obj | exact hx.bk | exact hx.rs | exact hx.sp | exact hx.tp | exact hx.w0.obj | exact hx.w0.arr _ rfl) ?_
        refine gF (by first | assumption | exact hx.w0.arr _ (wC_pp hk6) | exact hx.w0.arr _ (wC_bask hk6) | exact hx.obj | exact hx.bk | exact hx.rs | exact hx.sp | exact hx.tp | exact hx.w0.obj | exact hx.w0.arr _ rfl) ?_
        refine And.intro (fun b79 => ?_) (fun b79 => ?_)
        · simp only [cP, cN, bI_0, Bool.not_eq_false, lt_nle, Decidable.not_not] at b79
          exact And.intro (hs _ (by unfold ofM; rw [if_pos hps, if_neg (show ¬ w = 0 from hn 0 (by decide)), if_neg (show ¬ w = 1 from hn 1 (by decide)), if_neg (show ¬ w = 2 from hn 2 (by decide)), if_neg (by rw [show M 0 8 = _ from hp.w.2.2.2.1 3, b79]; decide)])) rfl
        · simp only [cP, cN, bI_0, Bool.not_eq_false, lt_nle, Decidable.not_not] at b79
          obtain ⟨j, hj, hjx, hjg⟩ := bask_ix (hp.w.1 3) b79
          refine gF (by first | assumption | exact hx.w0.arr _ (wC_pp hk6) | exact hx.w0.arr _ (wC_bask hk6) | exact hx.obj | exact hx.bk | exact hx.rs | exact hx.sp | exact hx.tp | exact hx.w0.obj | exact hx.w0.arr _ rfl) ?_
          refine gA (by first | assumption | exact hx.w0.arr _ (wC_pp hk6) | exact hx.w0.arr _ (wC_bask hk6) | exact hx.obj | exact hx.bk | exact hx.rs | exact hx.sp | exact hx.tp | exact hx.w0.obj | exact hx.w0.arr _ rfl) (ixE hjx hj (by decide)) ?_
          exact And.intro (hs _ (by unfold ofM; rw [if_pos hps, if_neg (show ¬ w = 0 from hn 0 (by decide)), if_neg (show ¬ w = 1 from hn 1 (by decide)), if_neg (show ¬ w = 2 from hn 2 (by decide)), if_pos (by rw [show M 0 8 = _ from hp.w.2.2.2.1 3]; exact b79), hg, hjg, hp.pb hk hj])) rfl
    · simp only [cP, cN, bI_0, Bool.not_eq_false, lt_nle, Decidable.not_not] at b5
      exact And.intro (hs _ (by unfold ofM; rw [if_neg (by rw [hp.ps, b5]; decide)])) rfl
def stX (W : XW) (w x : Int32) : XW := (W.up 0 0 (if w = 0 then 21 else if w = 1 then 22 else 23) x).uF 8 0
theorem x_set : CtS mX0_set (2) (xW2 (fun (a : Unit) w x W => True) (fun (a : Unit) w x W v W' => ((isInB w 0 2 = true ∧ isInB x 0 1000 = true) ∧ v = 1 ∧ W' = stX W w x) ∨ (¬ (isInB w 0 2 = true ∧ isInB x 0 1000 = true) ∧ v = 0 ∧ W' = W))) := by
  intro l G d hd as h z Q hs
  match as, hs with
  | [.ref b, .int w, .int x], hs =>
    obtain ⟨W, a, hx, hp, hs⟩ := hs
    replace hp : True := hp
    replace hs : ∀ v W' h', (((isInB w 0 2 = true ∧ isInB x 0 1000 = true) ∧ v = 1 ∧ W' = stX W w x) ∨ (¬ (isInB w 0 2 = true ∧ isInB x 0 1000 = true) ∧ v = 0 ∧ W' = W)) → IsX G b W' h' → FrX b h h' → Q (some (.int v)) h' := hs
    have hf : FrX b h h := FrX.rf
    refine Ct.of rfl (Nat.le_of_ble_eq_true rfl) rfl ?_
    refine X.w wkX0_set (fcons (ceV x_forgets xmW0 ckX0_110 rfl xrW0 (by omega) rfl) (fcons (ceS c_isIn mo3 ckX0_50 (by omega) rfl) fnil)) [] 8 rfl ?_
    refine And.intro (fun b8 => ?_) (fun b8 => ?_)
    · simp only [cP, cN, bI_0, Bool.not_eq_false, lt_nle, Decidable.not_not] at b8
      rcases sw_case w 2 (by decide) with ⟨k, hk, rfl⟩ | ⟨ho, hn⟩
      · match k, hk with
        | 0, _ =>
          refine X.tswIn wkX0_set.2.2.2 rfl (by decide +kernel) (by decide +kernel) (by decide +kernel) (off := 26) (tgt := 40) (by decide) ?_
          refine X.w wkX0_set (fcons (ceV x_forgets xmW0 ckX0_110 rfl xrW0 (by omega) rfl) (fcons (ceS c_isIn mo3 ckX0_50 (by omega) rfl) fnil)) [] 8 rfl ?_
          refine gF (by first | assumption | exact hx.obj | exact hx.bk | exact hx.rs | exact hx.sp | exact hx.tp | exact hx.w0.obj | exact hx.w0.arr _ rfl) ?_
          refine pF0 (okV_W rfl) (by first | assumption | exact hx.obj | exact hx.bk | exact hx.rs | exact hx.sp | exact hx.tp | exact hx.w0.obj | exact hx.w0.arr _ rfl) (Nat.le_of_ble_eq_true rfl) (by first | exact hx.N | exact hx.No _ | exact hx.w0.N | exact hx.w0.No _) ?_
          intro h45 e45
          have hf := hf.u e45 (InX.o (by decide)); have hx := hx.u0 (by decide) e45 rfl
          refine Exists.intro _ (Exists.intro () (And.intro hx (And.intro trivial ?_)))
          intro v49 W49 h49 p49 hx hf49
          have hf := hf.tr hf49
          (try dsimp only at p49)
          obtain ⟨rfl, rfl⟩ := p49
          refine And.intro (by first | exact Or.inl rfl | exact Or.inr rfl | exact bI_01 _) ?_
          exact And.intro (hs _ _ _ (Or.inl ⟨⟨by decide, b8⟩, rfl, by unfold stX; rw [if_pos (by decide)]⟩) hx hf) rfl
        | 1, _ =>
          refine X.tswIn wkX0_set.2.2.2 rfl (by decide +kernel) (by decide +kernel) (by decide +kernel) (off := 39) (tgt := 53) (by decide) ?_
          refine X.w wkX0_set (fcons (ceV x_forgets xmW0 ckX0_110 rfl xrW0 (by omega) rfl) (fcons (ceS c_isIn mo3 ckX0_50 (by omega) rfl) fnil)) [] 8 rfl ?_
          refine gF (by first | assumption | exact hx.obj | exact hx.bk | exact hx.rs | exact hx.sp | exact hx.tp | exact hx.w0.obj | exact hx.w0.arr _ rfl) ?_
          refine pF0 (okV_W rfl) (by first | assumption | exact hx.obj | exact hx.bk | exact hx.rs | exact hx.sp | exact hx.tp | exact hx.w0.obj | exact hx.w0.arr _ rfl) (Nat.le_of_ble_eq_true rfl) (by first | exact hx.N | exact hx.No _ | exact hx.w0.N | exact hx.w0.No _) ?_
          intro h58 e58
          have hf := hf.u e58 (InX.o (by decide)); have hx := hx.u0 (by decide) e58 rfl
          refine Exists.intro _ (Exists.intro () (And.intro hx (And.intro trivial ?_)))
          intro v62 W62 h62 p62 hx hf62
          have hf := hf.tr hf62
          (try dsimp only at p62)
          obtain ⟨rfl, rfl⟩ := p62
          refine And.intro (by first | exact Or.inl rfl | exact Or.inr rfl | exact bI_01 _) ?_
          exact And.intro (hs _ _ _ (Or.inl ⟨⟨by decide, b8⟩, rfl, by unfold stX; rw [if_neg (by decide), if_pos (by decide)]⟩) hx hf) rfl
        | 2, _ =>
          refine X.tswIn wkX0_set.2.2.2 rfl (by decide +kernel) (by decide +kernel) (by decide +kernel) (off := 52) (tgt := 66) (by decide) ?_
          refine X.w wkX0_set (fcons (ceV x_forgets xmW0 ckX0_110 rfl xrW0 (by omega) rfl) (fcons (ceS c_isIn mo3 ckX0_50 (by omega) rfl) fnil)) [] 8 rfl ?_
          refine gF (by first | assumption | exact hx.obj | exact hx.bk | exact hx.rs | exact hx.sp | exact hx.tp | exact hx.w0.obj | exact hx.w0.arr _ rfl) ?_
          refine pF0 (okV_W rfl) (by first | assumption | exact hx.obj | exact hx.bk | exact hx.rs | exact hx.sp | exact hx.tp | exact hx.w0.obj | exact hx.w0.arr _ rfl) (Nat.le_of_ble_eq_true rfl) (by first | exact hx.N | exact hx.No _ | exact hx.w0.N | exact hx.w0.No _) ?_
          intro h71 e71
          have hf := hf.u e71 (InX.o (by decide)); have hx := hx.u0 (by decide) e71 rfl
          refine Exists.intro _ (Exists.intro () (And.intro hx (And.intro trivial ?_)))
          intro v75 W75 h75 p75 hx hf75
          have hf := hf.tr hf75
          (try dsimp only at p75)
          obtain ⟨rfl, rfl⟩ := p75
          refine And.intro (by first | exact Or.inl rfl | exact Or.inr rfl | exact bI_01 _) ?_
          exact And.intro (hs _ _ _ (Or.inl ⟨⟨by decide, b8⟩, rfl, by unfold stX; rw [if_neg (by decide), if_neg (by decide)]⟩) hx hf) rfl
      · refine X.tswOut wkX0_set.2.2.2 rfl ho (tgt := 79) (by decide) ?_
        refine X.w wkX0_set (fcons (ceV x_forgets xmW0 ckX0_110 rfl xrW0 (by omega) rfl) (fcons (ceS c_isIn mo3 ckX0_50 (by omega) rfl) fnil)) [] 3 rfl ?_
        refine And.intro (by first | exact Or.inl rfl | exact Or.inr rfl | exact bI_01 _) ?_
        exact And.intro (hs _ _ _ (Or.inr ⟨fun q => by
          obtain ⟨j, -, hj, rfl⟩ := isInB_nI (a := 0) (b := 2) (by decide) q.1 (by decide)
          exact hn j hj rfl, rfl, rfl⟩) hx hf) rfl
    · simp only [cP, cN, bI_0, Bool.not_eq_false, lt_nle, Decidable.not_not] at b8
      refine And.intro (by first | exact Or.inl rfl | exact Or.inr rfl | exact bI_01 _) ?_
      exact And.intro (hs _ _ _ (Or.inr ⟨fun q => absurd (b8.symm.trans q.2) (by decide), rfl, rfl⟩) hx hf) rfl
def XW.sT (W : XW) (T : Nat → Int32) : XW := (W.1, T, W.2.2)
def byX (x : Int32) (k : Nat) : Int32 := (x >>> (nI k &&& 31)).toInt8.toInt32.toInt8.toInt32
def typX (f : Nat → Int32) (n : Nat) (x : Int32) : Nat → Int32 := upd (upd (upd (upd f n (byX x 24)) (n + 1) (byX x 16)) (n + 2) (byX x 8)) (n + 3) (byX x 0)
theorem uF_2 {W : XW} {k : Nat} {x y : Int32} : (W.uF k x).uF k y = W.uF k y := by
  unfold XW.uF
  show (upd (upd W.1 k x) k y, W.2) = (upd W.1 k y, W.2)
  congr 1
  funext q
  by_cases e : q = k
  · subst e; rw [pk_us, pk_us]
  · rw [pk_un e, pk_un e, pk_un e]
theorem uF_sf {W : XW} {k : Nat} {x : Int32} (e : W.F k = x) : W.uF k x = W := by
  unfold XW.uF
  subst e
  show (upd W.1 k (W.1 k), W.2) = W
  rw [show upd W.1 k (W.1 k) = W.1 from by
    funext q
    by_cases e : q = k
    · subst e; rw [pk_us]
    · rw [pk_un e]]
theorem x_word1 : CtS mX0_word (1) (xV1 (fun (a : Nat) x W => W.F 1 = nI a ∧ a ≤ 396) (fun (a : Nat) x W W' => W' = (W.sT (typX W.T a x)).uF 1 (nI (a + 4)))) := by
  intro l G d hd as h z Q hs
  match as, hs with
  | [.ref b, .int x], hs =>
    obtain ⟨W, a, hx, hp, hs⟩ := hs
    replace hp : W.F 1 = nI a ∧ a ≤ 396 := hp
    replace hs : ∀ W' h', (W' = (W.sT (typX W.T a x)).uF 1 (nI (a + 4))) → IsX G b W' h' → FrX b h h' → Q none h' := hs
    have hf : FrX b h h := FrX.rf
    refine Ct.of rfl (Nat.le_of_ble_eq_true rfl) rfl ?_
    obtain ⟨hn, ha⟩ := hp
    have hx0 : IsX G b ((W.sT W.T).uF 1 (nI (a + 0))) h := by rw [uF_sf (show (W.sT W.T).F 1 = nI (a + 0) from hn)]; exact hx
    clear hx
    refine X.w wkX0_word fnil [3] 4 rfl ?_
    have hx := hx0
    refine X.w wkX0_word fnil [3] 21 rfl ?_
    refine And.intro (fun b4 => ?_) (fun b4 => ?_)
    · simp only [cP, cN, bI_0, Bool.not_eq_false, lt_nle, Decidable.not_not] at b4
      exact absurd b4 (by decide)
    · simp only [cP, cN, bI_0, Bool.not_eq_false, lt_nle, Decidable.not_not] at b4
      refine gF (by first | assumption | exact hx.obj | exact hx.bk | exact hx.rs | exact hx.sp | exact hx.tp | exact hx.w0.obj | exact hx.w0.arr _ rfl) ?_
      refine gF (by first | assumption | exact hx.obj | exact hx.bk | exact hx.rs | exact hx.sp | exact hx.tp | exact hx.w0.obj | exact hx.w0.arr _ rfl) ?_
      refine sA (by first | assumption | exact hx.obj | exact hx.bk | exact hx.rs | exact hx.sp | exact hx.tp | exact hx.w0.obj | exact hx.w0.arr _ rfl) (ixN (by omega) (by decide)) (by first | exact hx.N | exact hx.No _ | exact hx.w0.N | exact hx.w0.No _) ?_
      intro h19 e19
      have hf := hf.u e19 InX.t; have hx := hx.uT e19
      refine gF (by first | assumption | exact hx.obj | exact hx.bk | exact hx.rs | exact hx.sp | exact hx.tp | exact hx.w0.obj | exact hx.w0.arr _ rfl) ?_
      refine pF0 (okV_W rfl) (by first | assumption | exact hx.obj | exact hx.bk | exact hx.rs | exact hx.sp | exact hx.tp | exact hx.w0.obj | exact hx.w0.arr _ rfl) (Nat.le_of_ble_eq_true rfl) (by first | exact hx.N | exact hx.No _ | exact hx.w0.N | exact hx.w0.No _) ?_
      intro h27 e27
      have hf := hf.u e27 InX.self; have hx := hx.uF e27 rfl
      replace hx : IsX G b (((W.sT (upd W.T a (byX x 24))).uF 1 (nI (a + 0))).uF 1 (nI (a + 0) + 1)) h27 := hx
      rw [nI_1, uF_2] at hx
      generalize h27 = hh1 at hx hf
      refine X.w wkX0_word fnil [3] 21 rfl ?_
      refine And.intro (fun b4 => ?_) (fun b4 => ?_)
      · simp only [cP, cN, bI_0, Bool.not_eq_false, lt_nle, Decidable.not_not] at b4
        exact absurd b4 (by decide)
      · simp only [cP, cN, bI_0, Bool.not_eq_false, lt_nle, Decidable.not_not] at b4
        refine gF (by first | assumption | exact hx.obj | exact hx.bk | exact hx.rs | exact hx.sp | exact hx.tp | exact hx.w0.obj | exact hx.w0.arr _ rfl) ?_
        refine gF (by first | assumption | exact hx.obj | exact hx.bk | exact hx.rs | exact hx.sp | exact hx.tp | exact hx.w0.obj | exact hx.w0.arr _ rfl) ?_
        refine sA (by first | assumption | exact hx.obj | exact hx.bk | exact hx.rs | exact hx.sp | exact hx.tp | exact hx.w0.obj | exact hx.w0.arr _ rfl) (ixN (by omega) (by decide)) (by first | exact hx.N | exact hx.No _ | exact hx.w0.N | exact hx.w0.No _) ?_
        intro h19 e19
        have hf := hf.u e19 InX.t; have hx := hx.uT e19
        refine gF (by first | assumption | exact hx.obj | exact hx.bk | exact hx.rs | exact hx.sp | exact hx.tp | exact hx.w0.obj | exact hx.w0.arr _ rfl) ?_
        refine pF0 (okV_W rfl) (by first | assumption | exact hx.obj | exact hx.bk | exact hx.rs | exact hx.sp | exact hx.tp | exact hx.w0.obj | exact hx.w0.arr _ rfl) (Nat.le_of_ble_eq_true rfl) (by first | exact hx.N | exact hx.No _ | exact hx.w0.N | exact hx.w0.No _) ?_
        intro h27 e27
        have hf := hf.u e27 InX.self; have hx := hx.uF e27 rfl
        replace hx : IsX G b (((W.sT (upd (upd W.T a (byX x 24)) (a + 1) (byX x 16))).uF 1 (nI (a + 1))).uF 1 (nI (a + 1) + 1)) h27 := hx
        rw [nI_1, uF_2] at hx
        generalize h27 = hh2 at hx hf
        refine X.w wkX0_word fnil [3] 21 rfl ?_
        refine And.intro (fun b4 => ?_) (fun b4 => ?_)
        · simp only [cP, cN, bI_0, Bool.not_eq_false, lt_nle, Decidable.not_not] at b4
          exact absurd b4 (by decide)
        · simp only [cP, cN, bI_0, Bool.not_eq_false, lt_nle, Decidable.not_not] at b4
          refine gF (by first | assumption | exact hx.obj | exact hx.bk | exact hx.rs | exact hx.sp | exact hx.tp | exact hx.w0.obj | exact hx.w0.arr _ rfl) ?_
          refine gF (by first | assumption | exact hx.obj | exact hx.bk | exact hx.rs | exact hx.sp | exact hx.tp | exact hx.w0.obj | exact hx.w0.arr _ rfl) ?_
          refine sA (by first | assumption | exact hx.obj | exact hx.bk | exact hx.rs | exact hx.sp | exact hx.tp | exact hx.w0.obj | exact hx.w0.arr _ rfl) (ixN (by omega) (by decide)) (by first | exact hx.N | exact hx.No _ | exact hx.w0.N | exact hx.w0.No _) ?_
          intro h19 e19
          have hf := hf.u e19 InX.t; have hx := hx.uT e19
          refine gF (by first | assumption | exact hx.obj | exact hx.bk | exact hx.rs | exact hx.sp | exact hx.tp | exact hx.w0.obj | exact hx.w0.arr _ rfl) ?_
          refine pF0 (okV_W rfl) (by first | assumption | exact hx.obj | exact hx.bk | exact hx.rs | exact hx.sp | exact hx.tp | exact hx.w0.obj | exact hx.w0.arr _ rfl) (Nat.le_of_ble_eq_true rfl) (by first | exact hx.N | exact hx.No _ | exact hx.w0.N | exact hx.w0.No _) ?_
          intro h27 e27
          have hf := hf.u e27 InX.self; have hx := hx.uF e27 rfl
          replace hx : IsX G b (((W.sT (upd (upd (upd W.T a (byX x 24)) (a + 1) (byX x 16)) (a + 2) (byX x 8))).uF 1 (nI (a + 2))).uF 1 (nI (a + 2) + 1)) h27 := hx
          rw [nI_1, uF_2] at hx
          generalize h27 = hh3 at hx hf
          refine X.w wkX0_word fnil [3] 21 rfl ?_
          refine And.intro (fun b4 => ?_) (fun b4 => ?_)
          · simp only [cP, cN, bI_0, Bool.not_eq_false, lt_nle, Decidable.not_not] at b4
            exact absurd b4 (by decide)
          · simp only [cP, cN, bI_0, Bool.not_eq_false, lt_nle, Decidable.not_not] at b4
            refine gF (by first | assumption | exact hx.obj | exact hx.bk | exact hx.rs | exact hx.sp | exact hx.tp | exact hx.w0.obj | exact hx.w0.arr _ rfl) ?_
            refine gF (by first | assumption | exact hx.obj | exact hx.bk | exact hx.rs | exact hx.sp | exact hx.tp | exact hx.w0.obj | exact hx.w0.arr _ rfl) ?_
            refine sA (by first | assumption | exact hx.obj | exact hx.bk | exact hx.rs | exact hx.sp | exact hx.tp | exact hx.w0.obj | exact hx.w0.arr _ rfl) (ixN (by omega) (by decide)) (by first | exact hx.N | exact hx.No _ | exact hx.w0.N | exact hx.w0.No _) ?_
            intro h19 e19
            have hf := hf.u e19 InX.t; have hx := hx.uT e19
            refine gF (by first | assumption | exact hx.obj | exact hx.bk | exact hx.rs | exact hx.sp | exact hx.tp | exact hx.w0.obj | exact hx.w0.arr _ rfl) ?_
            refine pF0 (okV_W rfl) (by first | assumption | exact hx.obj | exact hx.bk | exact hx.rs | exact hx.sp | exact hx.tp | exact hx.w0.obj | exact hx.w0.arr _ rfl) (Nat.le_of_ble_eq_true rfl) (by first | exact hx.N | exact hx.No _ | exact hx.w0.N | exact hx.w0.No _) ?_
            intro h27 e27
            have hf := hf.u e27 InX.self; have hx := hx.uF e27 rfl
            replace hx : IsX G b (((W.sT (upd (upd (upd (upd W.T a (byX x 24)) (a + 1) (byX x 16)) (a + 2) (byX x 8)) (a + 3) (byX x 0))).uF 1 (nI (a + 3))).uF 1 (nI (a + 3) + 1)) h27 := hx
            rw [nI_1, uF_2] at hx
            generalize h27 = hh4 at hx hf
            refine X.w wkX0_word fnil [3] 4 rfl ?_
            refine And.intro (fun b4 => ?_) (fun b4 => ?_)
            · simp only [cP, cN, bI_0, Bool.not_eq_false, lt_nle, Decidable.not_not] at b4
              exact And.intro (hs _ _ rfl hx hf) rfl
            · simp only [cP, cN, bI_0, Bool.not_eq_false, lt_nle, Decidable.not_not] at b4
              exact absurd b4 (by decide)
def fdX (W : XW) (n : Nat) (x1 x2 x3 x4 x5 : Int32) : XW := (W.sT (typX (typX (typX (typX (typX W.T n x1) (n + 4) x2) (n + 8) x3) (n + 12) x4) (n + 16) x5)).uF 1 (nI (n + 20))
theorem sT_uF {W : XW} {T T' : Nat → Int32} {x y : Int32} : (((W.sT T).uF 1 x).sT T').uF 1 y = (W.sT T').uF 1 y := by
  rw [show (((W.sT T).uF 1 x).sT T') = (W.sT T').uF 1 x from rfl, uF_2]
theorem x_feed : CtS mX0_feed (2) (xW5 (fun (a : Nat) x1 x2 x3 x4 x5 W => W.F 1 = nI a ∧ a ≤ 400) (fun (a : Nat) x1 x2 x3 x4 x5 W v W' => (a ≤ 380 ∧ v = nI (a + 20) ∧ W' = fdX W a x1 x2 x3 x4 x5) ∨ (¬ a ≤ 380 ∧ v = -1 ∧ W' = W))) := by
  intro l G d hd as h z Q hs
  match as, hs with
  | [.ref b, .int x1, .int x2, .int x3, .int x4, .int x5], hs =>
    obtain ⟨W, a, hx, hp, hs⟩ := hs
    replace hp : W.F 1 = nI a ∧ a ≤ 400 := hp
    replace hs : ∀ v W' h', ((a ≤ 380 ∧ v = nI (a + 20) ∧ W' = fdX W a x1 x2 x3 x4 x5) ∨ (¬ a ≤ 380 ∧ v = -1 ∧ W' = W)) → IsX G b W' h' → FrX b h h' → Q (some (.int v)) h' := hs
    have hf : FrX b h h := FrX.rf
    refine Ct.of rfl (Nat.le_of_ble_eq_true rfl) rfl ?_
    obtain ⟨hn, ha⟩ := hp
    have hq : W.F 1 + 20 ≤ 400 ↔ a ≤ 380 := by
      rw [hn, show (20 : Int32) = nI 20 from rfl, nI_add, show (400 : Int32) = nI 400 from rfl, nI_leI (by omega) (by decide)]
      omega
    refine X.w wkX0_feed (fcons (ceV x_word1 xmV1 ckX0_46 rfl xrV1 (by omega) rfl) fnil) [] 25 rfl ?_
    refine gF (by first | assumption | exact hx.obj | exact hx.bk | exact hx.rs | exact hx.sp | exact hx.tp | exact hx.w0.obj | exact hx.w0.arr _ rfl) ?_
    refine And.intro (fun b10 => ?_) (fun b10 => ?_)
    · simp only [cP, cN, bI_0, Bool.not_eq_false, lt_nle, Decidable.not_not] at b10
      have ha2 := hq.mp b10
      refine Exists.intro _ (Exists.intro (a + 0) (And.intro hx (And.intro ⟨hn, by omega⟩ ?_)))
      intro W17 h17 p17 hx hf17
      have hf := hf.tr hf17
      (try dsimp only at p17)
      subst p17
      refine Exists.intro _ (Exists.intro (a + 4) (And.intro hx (And.intro ⟨rfl, by omega⟩ ?_)))
      intro W22 h22 p22 hx hf22
      have hf := hf.tr hf22
      (try dsimp only at p22)
      subst p22
      rw [sT_uF] at hx
      refine Exists.intro _ (Exists.intro (a + 8) (And.intro hx (And.intro ⟨rfl, by omega⟩ ?_)))
      intro W27 h27 p27 hx hf27
      have hf := hf.tr hf27
      (try dsimp only at p27)
      subst p27
      rw [sT_uF] at hx
      refine Exists.intro _ (Exists.intro (a + 12) (And.intro hx (And.intro ⟨rfl, by omega⟩ ?_)))
      intro W33 h33 p33 hx hf33
      have hf := hf.tr hf33
      (try dsimp only at p33)
      subst p33
      rw [sT_uF] at hx
      refine Exists.intro _ (Exists.intro (a + 16) (And.intro hx (And.intro ⟨rfl, by omega⟩ ?_)))
      intro W39 h39 p39 hx hf39
      have hf := hf.tr hf39
      (try dsimp only at p39)
      subst p39
      rw [sT_uF] at hx
      refine gF (by first | assumption | exact hx.obj | exact hx.bk | exact hx.rs | exact hx.sp | exact hx.tp | exact hx.w0.obj | exact hx.w0.arr _ rfl) ?_
      exact And.intro (hs _ _ _ (Or.inl ⟨ha2, rfl, rfl⟩) hx hf) rfl
    · simp only [cP, cN, bI_0, Bool.not_eq_false, lt_nle, Decidable.not_not] at b10
      exact And.intro (hs _ _ _ (Or.inr ⟨fun q => b10 (hq.mpr q), rfl, rfl⟩) hx hf) rfl
def rot (p : Nat → Nat) (k : Nat) : Nat := if k < 11 then p (k + 1) else if k = 11 then p 0 else p k
/-- the first c places moved down -/
def rotN (p : Nat → Nat) (c k : Nat) : Nat := if k + 1 < c then p (k + 1) else p k
def XW.mv (W : XW) (j i m : Nat) : XW := W.uS j (movF (W.S j) (W.S i) m)
def kp0 (W : XW) (u : Nat) : XW := if u = 12 then (W.uQ (rot W.pi)).uF 8 (nI 11) else W
def kp1 (W : XW) (j u m : Nat) : XW := ((W.up j 0 16 (W.S 0 0 16)).mv j 0 m).uF 8 (nI (u + 1))
def kpX (W : XW) (u : Nat) : XW := kp1 (kp0 W u) (3 + (kp0 W u).pi (kaU u)) (kaU u) (gN (W.S 0 0 16))
theorem kp0_S {W : XW} {u : Nat} : (kp0 W u).S = W.S := by unfold kp0; split <;> rfl
theorem rot_in {p : Nat → Nat} (h1 : ∀ k, k < 12 → p k < 12) (h2 : ∀ k k', k < 12 → k' < 12 → p k = p k' → k = k') : (∀ k, k < 12 → rot p k < 12) ∧ ∀ k k', k < 12 → k' < 12 → rot p k = rot p k' → k = k' := by
  refine ⟨fun k hk => ?_, fun k k' hk hk' e => ?_⟩
  · unfold rot
    split
    · exact h1 _ (by omega)
    · split
      · exact h1 _ (by omega)
      · exact h1 _ hk
  · unfold rot at e
    by_cases a : k < 11
    · rw [if_pos a] at e
      by_cases b : k' < 11
      · rw [if_pos b] at e
        have := h2 _ _ (by omega) (by omega) e
        omega
      · rw [if_neg b, if_pos (by omega)] at e
        have := h2 _ _ (by omega) (by omega) e
        omega
    · rw [if_neg a, if_pos (by omega)] at e
      by_cases b : k' < 11
      · rw [if_pos b] at e
        have := h2 _ _ (by omega) (by omega) e
        omega
      · omega
theorem x_keeps : CtS mX0_keeps (3) (xW0 (fun (u : Nat) W => W.F 8 = nI u ∧ u ≤ 12 ∧ Bd 6 (W.S 0 0 16)) (fun (u : Nat) W v W' => v = 1 ∧ W' = kpX W u)) := by
  intro l G d hd as h z Q hs
  match as, hs with
  | [.ref b], hs =>
    obtain ⟨W, u, hx, hp, hs⟩ := hs
    replace hp : W.F 8 = nI u ∧ u ≤ 12 ∧ Bd 6 (W.S 0 0 16) := hp
    replace hs : ∀ v W' h', (v = 1 ∧ W' = kpX W u) → IsX G b W' h' → FrX b h h' → Q (some (.int v)) h' := hs
    have hf : FrX b h h := FrX.rf
    refine Ct.of rfl (Nat.le_of_ble_eq_true rfl) rfl ?_
    obtain ⟨hu, hu12, hB⟩ := hp
    have half : ∀ (W1 : XW) (k : Nat) (h1 : AH) (J : LL), IsX G b W1 h1 → FrX b h h1 → W1.F 8 = nI k → k < 12 → W1.S 0 0 16 = W.S 0 0 16 → kpX W u = kp1 W1 (3 + W1.pi k) k (gN (W.S 0 0 16)) → X l G mX0_keeps (rmK d 0 0) (TGm G (fun v h' z' => Q v h' ∧ z' = z) 0 0) 0 0 62 ((0, .ref b) :: J) [] h1 z := by
      intro W1 k h1 J hx hf hk hk12 hS hW
      refine X.cut [(0, .ref b)] J rfl ?_
      have hj : 3 + W1.pi k < 15 := by have := hx.p1 k hk12; omega
      have hap : Apart 125 (wb b (3 + W1.pi k)) (wb b 0) := by
        have := wb_ap (x := b) (j := 3 + W1.pi k) (j' := 0) (by omega)
        unfold Apart; omega
      refine X.w wkX0_keeps (fcons (ceV c_moves moMoves ckX0_96 rfl rcMoves (by omega) rfl) fnil) [] 26 rfl ?_
      refine gF (by first | assumption | exact (hx.wd _ hj).obj | exact hx.obj | exact hx.bk | exact hx.rs | exact hx.sp | exact hx.tp | exact hx.w0.obj | exact hx.w0.arr _ rfl) ?_
      refine gF (by first | assumption | exact (hx.wd _ hj).obj | exact hx.obj | exact hx.bk | exact hx.rs | exact hx.sp | exact hx.tp | exact hx.w0.obj | exact hx.w0.arr _ rfl) ?_
      refine gR (by first | assumption | exact (hx.wd _ hj).obj | exact hx.obj | exact hx.bk | exact hx.rs | exact hx.sp | exact hx.tp | exact hx.w0.obj | exact hx.w0.arr _ rfl) (by decide) (ixE hk hk12 (by decide)) (by exact rfl) ?_
      refine gF (by first | assumption | exact (hx.wd _ hj).obj | exact hx.obj | exact hx.bk | exact hx.rs | exact hx.sp | exact hx.tp | exact hx.w0.obj | exact hx.w0.arr _ rfl) ?_
      refine gF (by first | assumption | exact (hx.wd _ hj).obj | exact hx.obj | exact hx.bk | exact hx.rs | exact hx.sp | exact hx.tp | exact hx.w0.obj | exact hx.w0.arr _ rfl) ?_
      refine pF0 (okV_W rfl) (by first | assumption | exact (hx.wd _ hj).obj | exact hx.obj | exact hx.bk | exact hx.rs | exact hx.sp | exact hx.tp | exact hx.w0.obj | exact hx.w0.arr _ rfl) (Nat.le_of_ble_eq_true rfl) (by first | exact hx.N | exact hx.No _ | exact hx.w0.N | exact hx.w0.No _) ?_
      intro h78 e78
      have hf := hf.u e78 (InX.o hj); have hx := hx.u0 hj e78 rfl
      refine gF (by first | assumption | exact (hx.wd _ hj).obj | exact hx.obj | exact hx.bk | exact hx.rs | exact hx.sp | exact hx.tp | exact hx.w0.obj | exact hx.w0.arr _ rfl) ?_
      refine gF (by first | assumption | exact (hx.wd _ hj).obj | exact hx.obj | exact hx.bk | exact hx.rs | exact hx.sp | exact hx.tp | exact hx.w0.obj | exact hx.w0.arr _ rfl) ?_
      refine gR (by first | assumption | exact (hx.wd _ hj).obj | exact hx.obj | exact hx.bk | exact hx.rs | exact hx.sp | exact hx.tp | exact hx.w0.obj | exact hx.w0.arr _ rfl) (by decide) (ixE hk hk12 (by decide)) (by exact rfl) ?_
      refine gF (by first | assumption | exact (hx.wd _ hj).obj | exact hx.obj | exact hx.bk | exact hx.rs | exact hx.sp | exact hx.tp | exact hx.w0.obj | exact hx.w0.arr _ rfl) ?_
      refine Exists.intro _ (Exists.intro _ (Exists.intro _ (Exists.intro _ (Exists.intro _ (And.intro (hx.wd _ hj) (And.intro hx.w0 (And.intro hap (And.intro (up_ss.trans (hS.trans hB.1)) (And.intro hB.2 ?_)))))))))
      intro h94 hw94 hf94
      have hf := hf.w hj hf94
      have hx := hx.wood hj hw94 hf94
      refine gF (by first | assumption | exact (hx.wd _ hj).obj | exact hx.obj | exact hx.bk | exact hx.rs | exact hx.sp | exact hx.tp | exact hx.w0.obj | exact hx.w0.arr _ rfl) ?_
      refine pF0 (okV_W rfl) (by first | assumption | exact (hx.wd _ hj).obj | exact hx.obj | exact hx.bk | exact hx.rs | exact hx.sp | exact hx.tp | exact hx.w0.obj | exact hx.w0.arr _ rfl) (Nat.le_of_ble_eq_true rfl) (by first | exact hx.N | exact hx.No _ | exact hx.w0.N | exact hx.w0.No _) ?_
      intro h104 e104
      have hf := hf.u e104 InX.self; have hx := hx.uF e104 rfl
      refine And.intro (by first | exact Or.inl rfl | exact Or.inr rfl | exact bI_01 _) ?_
      refine And.intro (hs _ _ _ ⟨rfl, ?_⟩ hx hf) rfl
      rw [hW]
      unfold kp1
      rw [← nI_1, ← hk]
      rfl
    have loop : ∀ (n c : Nat) (i : Int32) (h1 : AH), c + n = 12 → i = nI c → 1 ≤ c → u = 12 → h1 = ahU h (b + 380) (aR G 4 12 (fun k => some (wb b (3 + rotN W.pi c k)))) → X l G mX0_keeps (rmK d 0 0) (TGm G (fun v h' z' => Q v h' ∧ z' = z) 0 0) 0 0 18 [(0, .ref b), (1, .ref (wb b (3 + W.pi 0))), (2, .int i)] [] h1 z := by
      intro n
      induction n using Nat.strongRecOn with
      | _ n ih =>
      intro c i h1 hc hi hc1 hu2 e1
      subst hi
      have ob : h1 b = some (.inr (0, xF b W.F)) := by rw [e1, ahU_n (by omega)]; exact hx.obj
      have bkf : h1 (b + 380) = some (aR G 4 12 (fun k => some (wb b (3 + rotN W.pi c k)))) := by rw [e1, ahU_s]
      have ow : ∀ j, j < 15 → h1 (wb b j) = some (.inr (1, wF (wb b j) (W.S j) (W.la j))) := fun j hj => by
        have := wb_in (x := b) hj
        rw [e1, ahU_n (by omega)]; exact (hx.wd j hj).obj
      refine X.w wkX0_keeps (fcons (ceV c_moves moMoves ckX0_96 rfl rcMoves (by omega) rfl) fnil) [18] 14 rfl ?_
      refine And.intro (fun b21 => ?_) (fun b21 => ?_)
      · simp only [cP, cN, bI_0, Bool.not_eq_false, lt_nle, Decidable.not_not] at b21
        have hc2 : 12 ≤ c := (le64 (by omega) (by omega)).mp b21
        obtain rfl : c = 12 := by omega
        refine gF (by first | assumption | exact ob | exact bkf | exact hx.obj | exact hx.bk | exact hx.rs | exact hx.sp | exact hx.tp | exact hx.w0.obj | exact hx.w0.arr _ rfl) ?_
        refine X.aast (ci := 1) (j := 11) wkX0_keeps.2.2.2 rfl bkf rfl (ow _ (show 3 + W.pi 0 < 15 by have := hx.p1 0 (by decide); omega)) rfl (ixE (j := 11) rfl (by decide) (by decide)) (hx.No _) rfl ?_
        intro h53 e53
        have e54 : h53 = ahU h (b + 380) (aR G 4 12 (fun k => some (wb b (3 + rot W.pi k)))) := by
          rw [e53, e1, ahU_2]
          congr 2
          funext k
          unfold va_up rotN rot
          by_cases e : k = 11
          · subst e; rfl
          · rw [if_neg e]
            dsimp only
            by_cases e2 : k < 11
            · rw [if_pos (show k + 1 < 12 by omega), if_pos e2]
            · rw [if_neg (show ¬ k + 1 < 12 by omega), if_neg e2, if_neg e]
        obtain ⟨q1, q2⟩ := rot_in hx.p1 hx.p2
        have hf : FrX b h h53 := FrX.rf.u e54 InX.b
        have hx := hx.uQ e54 q1 q2
        refine X.w wkX0_keeps (fcons (ceV c_moves moMoves ckX0_96 rfl rcMoves (by omega) rfl) fnil) [62] 8 rfl ?_
        refine gF (by first | assumption | exact hx.obj | exact hx.bk | exact hx.rs | exact hx.sp | exact hx.tp | exact hx.w0.obj | exact hx.w0.arr _ rfl) ?_
        refine pF0 (okV_W rfl) (by first | assumption | exact hx.obj | exact hx.bk | exact hx.rs | exact hx.sp | exact hx.tp | exact hx.w0.obj | exact hx.w0.arr _ rfl) (Nat.le_of_ble_eq_true rfl) (by first | exact hx.N | exact hx.No _ | exact hx.w0.N | exact hx.w0.No _) ?_
        intro h59 e59
        have hf := hf.u e59 InX.self; have hx := hx.uF e59 rfl
        have e8 : W.F 8 - 1 = nI 11 := by rw [hu, hu2, show (1 : Int32) = nI 1 from rfl, pk_sub (by decide)]
        refine half _ 11 _ [(1, .ref _), (2, .int _)] hx hf e8 (by decide) rfl ?_
        unfold kpX kp0
        rw [hu2, if_pos rfl]
        show kp1 ((W.uQ (rot W.pi)).uF 8 (nI 11)) _ _ _ = kp1 ((W.uQ (rot W.pi)).uF 8 (W.F 8 - 1)) _ _ _
        rw [e8]
        rfl
      · simp only [cP, cN, bI_0, Bool.not_eq_false, lt_nle, Decidable.not_not] at b21
        have hc2 : c < 12 := nle64 b21 (by omega) (by omega)
        refine gF (by first | assumption | exact ob | exact bkf | exact hx.obj | exact hx.bk | exact hx.rs | exact hx.sp | exact hx.tp | exact hx.w0.obj | exact hx.w0.arr _ rfl) ?_
        refine gF (by first | assumption | exact ob | exact bkf | exact hx.obj | exact hx.bk | exact hx.rs | exact hx.sp | exact hx.tp | exact hx.w0.obj | exact hx.w0.arr _ rfl) ?_
        refine gR (by first | assumption | exact ob | exact bkf | exact hx.obj | exact hx.bk | exact hx.rs | exact hx.sp | exact hx.tp | exact hx.w0.obj | exact hx.w0.arr _ rfl) (by decide) (by first | exact ixN (by omega) (by decide) | exact ixz (by omega) (by decide)) (by exact rfl) ?_
        refine X.aast (ci := 1) (j := c - 1) wkX0_keeps.2.2.2 rfl bkf rfl (ow _ (show 3 + rotN W.pi c c < 15 by unfold rotN; rw [if_neg (by omega)]; have := hx.p1 c hc2; omega)) rfl (ixE (by rw [show (1 : Int32) = nI 1 from rfl, pk_sub hc1]) (by omega) (by decide)) (hx.No _) rfl ?_
        intro h37 e37
        refine X.w wkX0_keeps (fcons (ceV c_moves moMoves ckX0_96 rfl rcMoves (by omega) rfl) fnil) [18] 4 rfl ?_
        refine ih (n - 1) (by omega) (c + 1) _ _ (by omega) (nI_1 c) (by omega) hu2 ?_
        rw [e37, e1, ahU_2]
        congr 2
        funext k
        unfold va_up rotN
        by_cases e : k = c - 1
        · rw [if_pos e, if_neg (by omega), if_pos (by omega), show k + 1 = c from by omega]
        · rw [if_neg e]
          dsimp only
          by_cases e2 : k + 1 < c
          · rw [if_pos e2, if_pos (by omega)]
          · rw [if_neg e2, if_neg (by omega)]
    refine X.w wkX0_keeps (fcons (ceV c_moves moMoves ckX0_96 rfl rcMoves (by omega) rfl) fnil) [18, 62] 13 rfl ?_
    refine gF (by first | assumption | exact hx.obj | exact hx.bk | exact hx.rs | exact hx.sp | exact hx.tp | exact hx.w0.obj | exact hx.w0.arr _ rfl) ?_
    refine And.intro (fun b6 => ?_) (fun b6 => ?_)
    · simp only [cP, cN, bI_0, Bool.not_eq_false, lt_nle, Decidable.not_not] at b6
      have hu3 : ¬ u = 12 := fun e => b6 (by rw [hu, e]; rfl)
      refine half W u _ [] hx hf hu (by omega) rfl ?_
      unfold kpX kp0
      rw [if_neg hu3]
      unfold kaU
      rw [if_neg hu3]
    · simp only [cP, cN, bI_0, Bool.not_eq_false, lt_nle, Decidable.not_not] at b6
      refine gF (by first | assumption | exact hx.obj | exact hx.bk | exact hx.rs | exact hx.sp | exact hx.tp | exact hx.w0.obj | exact hx.w0.arr _ rfl) ?_
      refine gR (by first | assumption | exact hx.obj | exact hx.bk | exact hx.rs | exact hx.sp | exact hx.tp | exact hx.w0.obj | exact hx.w0.arr _ rfl) (by decide) (ixE (j := 0) rfl (by decide) (by decide)) (by exact rfl) ?_
      refine loop 11 1 _ _ (by decide) rfl (Nat.le_refl 1) ?_ ?_
      · exact (nI_eq (by omega) (by decide)).mp (hu.symm.trans b6)
      · rw [show (fun k => some (wb b (3 + rotN W.pi 1 k))) = (fun k => some (wb b (3 + W.pi k))) from by
          funext k
          unfold rotN
          rw [if_neg (by omega)]]
        funext q
        unfold ahU
        by_cases e : q = b + 380
        · rw [if_pos e, e]; exact hx.bk
        · rw [if_neg e]
def unX (W : XW) (u : Nat) : XW := (W.uF 8 (nI u)).mv 0 (3 + W.pi u) (gN (W.S 0 0 16))
theorem x_undo : CtS mX0_undo (3) (xW0 (fun (u : Nat) W => W.F 8 = nI u ∧ u ≤ 12 ∧ Bd 6 (W.S 0 0 16)) (fun (u : Nat) W v W' => (u = 0 ∧ v = 0 ∧ W' = W) ∨ (¬ u = 0 ∧ v = 1 ∧ W' = unX W (u - 1)))) := by
  intro l G d hd as h z Q hs
  match as, hs with
  | [.ref b], hs =>
    obtain ⟨W, u, hx, hp, hs⟩ := hs
    replace hp : W.F 8 = nI u ∧ u ≤ 12 ∧ Bd 6 (W.S 0 0 16) := hp
    replace hs : ∀ v W' h', ((u = 0 ∧ v = 0 ∧ W' = W) ∨ (¬ u = 0 ∧ v = 1 ∧ W' = unX W (u - 1))) → IsX G b W' h' → FrX b h h' → Q (some (.int v)) h' := hs
    have hf : FrX b h h := FrX.rf
    refine Ct.of rfl (Nat.le_of_ble_eq_true rfl) rfl ?_
    obtain ⟨hu, hu12, hB⟩ := hp
    have h0 : W.F 8 = 0 ↔ u = 0 := by rw [hu]; exact nI_eq (by omega) (by decide)
    refine X.w wkX0_undo (fcons (ceV c_moves moMoves ckX0_96 rfl rcMoves (by omega) rfl) fnil) [] 20 rfl ?_
    refine gF (by first | assumption | exact hx.obj | exact hx.bk | exact hx.rs | exact hx.sp | exact hx.tp | exact hx.w0.obj | exact hx.w0.arr _ rfl) ?_
    refine And.intro (fun b4 => ?_) (fun b4 => ?_)
    · simp only [cP, cN, bI_0, Bool.not_eq_false, lt_nle, Decidable.not_not] at b4
      have hu0 : ¬ u = 0 := fun e => b4 (h0.mpr e)
      have e8 : W.F 8 - 1 = nI (u - 1) := by rw [hu, show (1 : Int32) = nI 1 from rfl, pk_sub (by omega)]
      have hj : 3 + W.pi (u - 1) < 15 := by have := hx.p1 (u - 1) (by omega); omega
      have hap : Apart 125 (wb b 0) (wb b (3 + W.pi (u - 1))) := by
        have := wb_ap (x := b) (j := 0) (j' := 3 + W.pi (u - 1)) (by omega)
        unfold Apart; omega
      refine gF (by first | assumption | exact hx.obj | exact hx.bk | exact hx.rs | exact hx.sp | exact hx.tp | exact hx.w0.obj | exact hx.w0.arr _ rfl) ?_
      refine pF0 (okV_W rfl) (by first | assumption | exact hx.obj | exact hx.bk | exact hx.rs | exact hx.sp | exact hx.tp | exact hx.w0.obj | exact hx.w0.arr _ rfl) (Nat.le_of_ble_eq_true rfl) (by first | exact hx.N | exact hx.No _ | exact hx.w0.N | exact hx.w0.No _) ?_
      intro h16 e16
      have hf := hf.u e16 InX.self; have hx := hx.uF e16 rfl
      refine gF (by first | assumption | exact hx.obj | exact hx.bk | exact hx.rs | exact hx.sp | exact hx.tp | exact hx.w0.obj | exact hx.w0.arr _ rfl) ?_
      refine gF (by first | assumption | exact hx.obj | exact hx.bk | exact hx.rs | exact hx.sp | exact hx.tp | exact hx.w0.obj | exact hx.w0.arr _ rfl) ?_
      refine gF (by first | assumption | exact hx.obj | exact hx.bk | exact hx.rs | exact hx.sp | exact hx.tp | exact hx.w0.obj | exact hx.w0.arr _ rfl) ?_
      refine gR (by first | assumption | exact hx.obj | exact hx.bk | exact hx.rs | exact hx.sp | exact hx.tp | exact hx.w0.obj | exact hx.w0.arr _ rfl) (by decide) (ixE e8 (by omega) (by decide)) (by exact rfl) ?_
      refine Exists.intro _ (Exists.intro _ (Exists.intro _ (Exists.intro _ (Exists.intro _ (And.intro hx.w0 (And.intro (hx.wd _ hj) (And.intro hap (And.intro hB.1 (And.intro hB.2 ?_)))))))))
      intro h32 hw32 hf32
      have hf := hf.w (j := 0) (by decide) hf32
      have hx := hx.wood (j := 0) (by decide) hw32 hf32
      refine And.intro (by first | exact Or.inl rfl | exact Or.inr rfl | exact bI_01 _) ?_
      refine And.intro (hs _ _ _ (Or.inr ⟨hu0, rfl, ?_⟩) hx hf) rfl
      unfold unX
      rw [← e8]
      rfl
    · simp only [cP, cN, bI_0, Bool.not_eq_false, lt_nle, Decidable.not_not] at b4
      refine And.intro (by first | exact Or.inl rfl | exact Or.inr rfl | exact bI_01 _) ?_
      exact And.intro (hs _ _ _ (Or.inl ⟨h0.mp b4, rfl, rfl⟩) hx hf) rfl
