/-! CALLS ON BOTH SIDES: undone, the image -/
set_option maxRecDepth 100000
section
variable {G : am_G} {bs x dx dy kX kY : Nat} {h : am_H} {a a' : AA} {AsX AsY : List Value}
theorem RK.mr {m p : Nat → Int32} (q : RK m) (g : MR m p) : RK p := by
  obtain ⟨q1, q2, q3, q4⟩ := q
  obtain ⟨v, lb, h1, h2, ht⟩ := g
  exact ⟨q1.ag h1 h2 ht, fun z => by rw [h1, lwF_congr h2 ht]; exact q2 (by rw [← h1]; exact z), lb, fun k hk => (ht k (by omega)).trans (q4 k hk)⟩
theorem rp1_of {S : Nat → Prop} (gx : GX bs x S h a) : ∀ k, RP1 x S k → ((x + 1 ≤ k ∧ k < x + 16) ∨ k = x + 48 ∨ k = x + 64 ∨ x + 98 ≤ k) ∧ ¬ S k := fun k z => by
  refine ⟨by unfold RP1 HP InW RP at z; omega, fun sk => ?_⟩
  have := (gx.2.1 k sk).1
  have := gx.1
  rcases z with z | z | z
  · unfold HP InW at z; omega
  · omega
  · exact z.2 sk
theorem o_undo (st : STA G bs x h a) : OP1 G bs x h a 9 m_X1_undo [.ref x] 0 m_X6_undo [.ref (x + 87)] := by
  have st0 := st
  have h12 := st_ws st
  obtain ⟨S, g, lf, gx, ⟨b, l, K, W, X⟩, sy, o97⟩ := st
  have W0 := W
  by_cases c : a.ws = []
  · refine ⟨0, op1 (a' := a) st0 (ev_mono (c_xUndo K gx.1 gx.2.1 W) ?_) ?_⟩
    · rintro v h1 (⟨-, rfl, rfl⟩ | ⟨us, p, b', e, -⟩)
      · exact ⟨rfl, xs_same gx ⟨b, l, K, W0, X⟩⟩
      · rw [c] at e; simp at e
    · intro h2 S g gx sx sy
      have hw := sx.sys.1
      obtain ⟨mm, qk, as, ⟨ac, qa, ar⟩, tp, fa, f7, f8, f9, e3, e6, e8, e12, ez⟩ := id sy
      obtain ⟨j, R, e, er⟩ := c_yUndo (G := G) mm qa e6 h12
      rw [c] at er
      subst er
      exact ⟨j, _, e, _, _, rfl, ⟨_, rfl, fun _ => rfl⟩, ⟨_, SYg.num sy rfl rfl rfl rfl id, upd_eq⟩, (HF.set hw mm.1).mono (fun k z => by unfold YF; omega) (Nat.le_refl _) (Nat.le_refl _)⟩
  · obtain ⟨us, p, ew⟩ := W0.last c
    have hlen : a.ws.length = us.length + 1 := by rw [ew, List.length_append]; rfl
    refine ⟨1, op1 (a' := (p.2, a.mi, a.hi, us, a.T, a.len, a.ft)) st0 (ev_mono (c_xUndo K gx.1 gx.2.1 W) ?_) ?_⟩
    · rintro v h1 (⟨e, -⟩ | ⟨us', p', b', e, rfl, mr, K1, W1, F⟩)
      · exact absurd e c
      · have ee : us' = us ∧ p' = p := by
          have z := e.symm.trans ew
          have z1 := List.append_inj' z rfl
          exact ⟨z1.1, by simpa using z1.2⟩
        obtain ⟨rfl, rfl⟩ := ee
        have hp := rp1_of gx
        obtain ⟨gb, sg, hn, hl, rk⟩ := gx
        have z := F.z
        exact ⟨rfl, S, 0, 0, ⟨gb, fun k sk => by have := sg k sk; omega, by omega, hl, rk.mr mr⟩, ⟨b', l, K1, W1, X.keep F (fun k z => ⟨by have := (hp k z).1; unfold OF; omega, (hp k z).2⟩)⟩, F.mono (fun k z => by have := (hp k z).1; unfold XF; omega) (Nat.le_refl _) (Nat.le_refl _), (by show 0 + 5600 * a.len ≤ _; omega), (by show 0 + 35 * a.len ≤ _; omega)⟩
    · have mr : MR a.m p.2 := by
        obtain ⟨arr, -, -, -, we, -⟩ := W0
        exact (we p (by rw [ew]; exact List.mem_append_right _ (List.mem_singleton_self p))).2.2.2.2
      intro h2 S g gx sx sy
      have hw := sx.sys.1
      obtain ⟨⟨q1, q2⟩, ⟨kp, q3, q3', q3''⟩, ⟨ad, q4⟩, ⟨ac, q5, q5'⟩, q6, ⟨fa, q7⟩, ⟨f8, q8⟩, ⟨f9, q9⟩, ⟨f10, q10⟩, e3, e6, e8, e12, ez⟩ := sy
      obtain ⟨j, R, e, er⟩ := c_yUndo (G := G) ⟨q1, q2⟩ q5 e6 h12
      have row : cpN ac a.m (369 * (a.ws.length - 1)) 0 369 = p.2 := by
        funext k
        rw [cpN_at]
        by_cases d : k < 369
        · rw [if_pos (by omega), q5' (a.ws.length - 1) (by omega) (k - 0) (by omega)]
          have : a.ws[a.ws.length - 1]'(by omega) = p := by
            simp only [ew]
            simp
          rw [this]; rfl
        · rw [if_neg (by omega)]; exact (mr.2.2.2.2 k (by omega)).symm
      rw [if_neg (by omega), row, decide_eq_true (by omega)] at er
      subst er
      have ar : AR ac us := fun i hi k hk => by
        have z := q5' i (by omega) k hk
        have e9 : a.ws[i]'(by omega) = us[i] := by
          simp only [ew]
          exact List.getElem_append_left hi
        rw [z, e9]
      have kk : ∀ {i : Nat} {w : am_C}, h2.1 (x + 87 + i) = some w → 2 ≤ i → (mh (am_set h2 (x + 87 + 1) (.inl (0, 769, .inl p.2))) (x + 87) (upd (upd g 0 (nI 0)) 6 (nI (a.ws.length - 1)))).1 (x + 87 + i) = some w := fun {i w} z h1 => am_set_k (am_set_k z (by omega)) (by omega)
      have F1 : HF (YF x) 0 0 h2 (am_set h2 (x + 87 + 1) (.inl (0, 769, .inl p.2))) := (HF.set hw q2).mono (fun k z => by unfold YF; omega) (Nat.le_refl _) (Nat.le_refl _)
      refine ⟨j, _, e, _, _, rfl, ⟨_, rfl, fun _ => rfl⟩, ⟨_, ⟨⟨am_set_at, am_set_k am_set_at (by omega)⟩, ⟨kp, kk q3 (by decide), q3', q3''⟩, ⟨ad, kk q4 (by decide)⟩, ⟨ac, kk q5 (by decide), ar⟩, kk q6 (by decide), ⟨fa, kk q7 (by decide)⟩, ⟨f8, kk q8 (by decide)⟩, ⟨f9, kk q9 (by decide)⟩, ⟨f10, kk q10 (by decide)⟩, e3, ?_, e8, e12, ez⟩, rfl⟩, HF.setP F1 (am_set_k q1 (by omega)) (by unfold YF; omega)⟩
      show nI (a.ws.length - 1) = nI us.length
      rw [hlen, Nat.add_sub_cancel]
theorem o_image (st : STA G bs x h a) : OP0 G bs x h a 2 m_X1_image [.ref x] 0 m_X6_image [.ref (x + 87)] := by
  obtain ⟨S, g, lf, gx, ⟨b, l, K, W, X⟩, sy, o97⟩ := st
  have X0 := X
  obtain ⟨x1, x2, ⟨mt, bt, lt, x3⟩, x4, x5, x6, ⟨f7, x7⟩, x8⟩ := X0
  have gx0 := gx
  obtain ⟨gb, sg, hn, hl, rk⟩ := gx
  refine en_mono (c_xImage K gb sg x3) ?_
  rintro h1 ⟨K1, wi, F⟩
  have z := F.z
  have hp : ∀ k, IP x k → k = x ∨ (x + 31 ≤ k ∧ k < x + 46) := fun k z => by unfold IP InW at z; omega
  have hS : ∀ k, IP x k → ¬ S k := fun k z sk => by have := (sg k sk).1; have := hp k z; omega
  obtain ⟨q1, v, yb, q4, q5, q6, o, q8⟩ := id K1
  have sy1 := SYg.keep sy F (fun k z => by have := hp k z; omega)
  have o1 := F.k o97 (fun z => by have := hp _ z; omega)
  have sx1 : SXA G bs x S h1 (a.m, a.m, true, a.ws, a.T, a.len, a.ft) := ⟨b, l, K1, W.kp F (fun k z => by have := hp k z; omega), ⟨fun _ => ⟨b, l, wi, v, yb, q4, rk⟩, x2.keep F (fun k z => by have := hp k z; omega), ⟨_, _, _, wi⟩, x4.keep F (fun k z => by have := hp k z; omega), x5.keep F (fun k z => by have := hp k z; omega), x6.keep F (fun k z => by have := hp k z; omega), ⟨f7, F.k x7 (fun z => by have := hp _ z; omega)⟩, x8.keep F (fun k z => by have := hp k z; omega)⟩⟩
  have gx1 : GX bs x S h1 (a.m, a.m, true, a.ws, a.T, a.len, a.ft) := ⟨gb, fun k sk => by have := sg k sk; omega, by omega, hl, rk⟩
  refine ⟨⟨⟨g, sy1.1.1⟩, fun k e hk he => F.k he (fun z => by have := hp _ z; omega)⟩, ?_⟩
  obtain ⟨⟨q1, q2⟩, ⟨kp, q3, q3', q3''⟩, ⟨ad, q4⟩, ⟨ac, q5, q5'⟩, q6, ⟨fa, q7⟩, ⟨f8, q8⟩, ⟨f9, q9⟩, ⟨f10, q10⟩, e3, e6, e8, e12, ez⟩ := sy1
  have row : cpN a.m kp 0 0 769 = a.m := by
    funext k
    rw [cpN_at]
    by_cases d : k < 769
    · rw [if_pos (by omega), Nat.zero_add, Nat.sub_zero]
    · rw [if_neg (by omega), q3'' k (by omega), rk.2.2.2 k (by omega)]
  obtain ⟨j, R, e, er⟩ := c_yImage (G := G) ⟨q1, q2⟩ q3
  rw [row] at er
  subst er
  have kk : ∀ {i : Nat} {w : am_C}, h1.1 (x + 87 + i) = some w → 1 ≤ i → i ≠ 2 → (mh (am_set h1 (x + 87 + 2) (.inl (0, 769, .inl a.m))) (x + 87) (upd (upd g 0 (nI 0)) 3 1)).1 (x + 87 + i) = some w := fun {i w} z h1 h2 => am_set_k (am_set_k z (by omega)) (by omega)
  have F1 : HF (YF x) 0 0 h1 (am_set h1 (x + 87 + 2) (.inl (0, 769, .inl a.m))) := (HF.set F.w q3).mono (fun k z => by unfold YF; omega) (Nat.le_refl _) (Nat.le_refl _)
  have F2 : HF (YF x) 0 0 h1 (mh (am_set h1 (x + 87 + 2) (.inl (0, 769, .inl a.m))) (x + 87) (upd (upd g 0 (nI 0)) 3 1)) := HF.setP F1 (am_set_k q1 (by omega)) (by unfold YF; omega)
  refine ⟨j, _, e, _, rfl, fin_y (h1 := h1) (a := a) (g := upd (upd g 0 (nI 0)) 3 1) gx1 sx1 o1 (F.mono (fun k z => Or.inl (by have := hp k z; unfold XF; omega)) (Nat.le_refl _) (Nat.le_refl _)) (by show 0 + 5600 * a.len ≤ _; omega) (by show 0 + 35 * a.len ≤ _; omega) ?_ F2⟩
  exact ⟨⟨am_set_at, kk q2 (by decide) (by decide)⟩, ⟨a.m, am_set_k am_set_at (by omega), fun _ => rfl, rk.2.2.2⟩, ⟨ad, kk q4 (by decide) (by decide)⟩, ⟨ac, kk q5 (by decide) (by decide), q5'⟩, kk q6 (by decide) (by decide), ⟨fa, kk q7 (by decide) (by decide)⟩, ⟨f8, kk q8 (by decide) (by decide)⟩, ⟨f9, kk q9 (by decide) (by decide)⟩, ⟨f10, kk q10 (by decide) (by decide)⟩, rfl, e6, e8, e12, ez⟩
theorem o_back (st : STA G bs x h a) : OP1 G bs x h a 2 m_X1_back [.ref x] 0 m_X6_back [.ref (x + 87)] := by
  have st0 := st
  obtain ⟨S, g, lf, gx, ⟨b, l, K, W, X⟩, sy, o97⟩ := st
  cases hh : a.hi with
  | false =>
    obtain ⟨mt, bt, lt, wt⟩ := X.2.2.1
    refine ⟨0, op1 (a' := a) st0 (ev_mono (c_xBack K gx.1 gx.2.1 W wt (fun z => by rw [hh] at z; cases z)) ?_) ?_⟩
    · rintro v h1 (⟨-, rfl, rfl⟩ | ⟨e, -⟩)
      · exact ⟨rfl, xs_same gx ⟨b, l, K, W, X⟩⟩
      · rw [hh] at e; cases e
    · intro h2 S g gx sx sy
      have hw := sx.sys.1
      obtain ⟨mm, ⟨kp, qk, qk', qk''⟩, as, qac, tp, fa, f7, f8, f9, e3, e6, e8, e12, ez⟩ := id sy
      obtain ⟨j, R, e, er⟩ := c_yBack (G := G) mm qk e3
      rw [hh] at er
      subst er
      exact ⟨j, _, e, _, _, rfl, ⟨_, rfl, fun _ => rfl⟩, ⟨_, SYg.num sy rfl rfl rfl rfl id, upd_eq⟩, (HF.set hw mm.1).mono (fun k z => by unfold YF; omega) (Nat.le_refl _) (Nat.le_refl _)⟩
  | true =>
    obtain ⟨bi, li, wi, vi, yi, lo, rki⟩ := X.1 hh
    refine ⟨1, op1 (a' := (a.mi, a.mi, a.hi, [], a.T, a.len, a.ft)) st0 (ev_mono (c_xBack K gx.1 gx.2.1 W wi (fun _ => ⟨vi, yi, lo⟩)) ?_) ?_⟩
    · rintro v h1 (⟨e, -⟩ | ⟨-, rfl, K1, W1, F⟩)
      · rw [hh] at e; cases e
      · have hp := rp1_of gx
        obtain ⟨gb, sg, hn, hl, rk⟩ := gx
        have z := F.z
        exact ⟨rfl, S, 0, 0, ⟨gb, fun k sk => by have := sg k sk; omega, by omega, hl, rki⟩, ⟨bi, li, K1, W1, X.keep F (fun k z => ⟨by have := (hp k z).1; unfold OF; omega, (hp k z).2⟩)⟩, F.mono (fun k z => by have := (hp k z).1; unfold XF; omega) (Nat.le_refl _) (Nat.le_refl _), (by show 0 + 5600 * a.len ≤ _; omega), (by show 0 + 35 * a.len ≤ _; omega)⟩
    · have rk0 := gx.2.2.2.2
      intro h2 S g gx sx sy
      have hw := sx.sys.1
      obtain ⟨⟨q1, q2⟩, ⟨kp, q3, q3', q3''⟩, ⟨ad, q4⟩, ⟨ac, q5, q5'⟩, q6, ⟨fa, q7⟩, ⟨f8, q8⟩, ⟨f9, q9⟩, ⟨f10, q10⟩, e3, e6, e8, e12, ez⟩ := sy
      have ek := q3' hh
      subst ek
      obtain ⟨j, R, e, er⟩ := c_yBack (G := G) ⟨q1, q2⟩ q3 e3
      have row : cpN a.mi a.m 0 0 769 = a.mi := by
        funext k
        rw [cpN_at]
        by_cases d : k < 769
        · rw [if_pos (by omega), Nat.zero_add, Nat.sub_zero]
        · rw [if_neg (by omega), q3'' k (by omega), rk0.2.2.2 k (by omega)]
      rw [hh, if_pos rfl, row] at er
      subst er
      have kk : ∀ {i : Nat} {w : am_C}, h2.1 (x + 87 + i) = some w → 2 ≤ i → (mh (am_set h2 (x + 87 + 1) (.inl (0, 769, .inl a.mi))) (x + 87) (upd (upd g 0 (nI 0)) 6 0)).1 (x + 87 + i) = some w := fun {i w} z h1 => am_set_k (am_set_k z (by omega)) (by omega)
      have F1 : HF (YF x) 0 0 h2 (am_set h2 (x + 87 + 1) (.inl (0, 769, .inl a.mi))) := (HF.set hw q2).mono (fun k z => by unfold YF; omega) (Nat.le_refl _) (Nat.le_refl _)
      exact ⟨j, _, e, _, _, rfl, ⟨_, rfl, fun _ => rfl⟩, ⟨_, ⟨⟨am_set_at, am_set_k am_set_at (by omega)⟩, ⟨a.mi, kk q3 (by decide), fun _ => rfl, q3''⟩, ⟨ad, kk q4 (by decide)⟩, ⟨ac, kk q5 (by decide), fun i hi => absurd hi (Nat.not_lt_zero _)⟩, kk q6 (by decide), ⟨fa, kk q7 (by decide)⟩, ⟨f8, kk q8 (by decide)⟩, ⟨f9, kk q9 (by decide)⟩, ⟨f10, kk q10 (by decide)⟩, e3, rfl, e8, e12, ez⟩, rfl⟩, HF.setP F1 (am_set_k q1 (by omega)) (by unfold YF; omega)⟩
end
