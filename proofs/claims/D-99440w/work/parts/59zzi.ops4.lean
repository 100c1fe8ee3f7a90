/-! CALLS ON BOTH SIDES: the tape, what is kept -/
set_option maxRecDepth 100000
theorem bt_255 (x : Int32) : BT (x &&& 255) := by
  obtain ⟨k, hk, e⟩ := and_lo (x &&& 255)
  have e2 : x &&& 255 = nI k := by
    rw [← e]
    apply tb_ext
    intro i hi
    rw [tb_and, tb_and, tb_and]
    have : ∀ i, i < 32 → (tb 255 i = true → tb 32767 i = true) := by decide +kernel
    have z := this i hi
    revert z
    cases tb 255 i <;> cases tb x i <;> cases tb 32767 i <;> simp
  refine ⟨k, ?_, e2⟩
  apply Nat.lt_of_not_le
  intro h256
  have h := Nat.lt_pow_two_of_testBit k (n := 8) (fun i hi => by
    by_cases c : i < 32
    · have z := congrArg (fun w => tb w i) e2
      simp only [tb_and, tb_nI c] at z
      have : ∀ i, i < 32 → 8 ≤ i → tb 255 i = false := by decide +kernel
      rw [this i c hi, Bool.and_false] at z
      exact z.symm
    · exact Nat.testBit_lt_two_pow (Nat.lt_of_lt_of_le hk (Nat.pow_le_pow_right (n := 2) (by decide) (show 15 ≤ i by omega))))
  omega
theorem TF.tb {T f : Nat → Int32} (q : TF T f) : TB T := fun k hk => by
  obtain ⟨⟨u, hu, e⟩, -⟩ := q k hk
  unfold tN
  rw [e, nI_clamp (by omega)]
  exact ⟨rfl, hu⟩
section
variable {G : am_G} {bs x dx dy kX kY : Nat} {h : am_H} {a a' : AA} {AsX AsY : List Value}
/-- a call that answers nothing -/
abbrev OP0 (G : am_G) (bs x : Nat) (h : am_H) (a : AA) (dx kX : Nat) (AsX : List Value) (dy kY : Nat) (AsY : List Value) : Prop := En G dx kX AsX h (fun h1 => CY bs x h h1 ∧ En G dy kY AsY h1 (fun h2 => FIN G bs x h a h2))
theorem o_seed (st : STA G bs x h a) (n : Int32) : OP1 G bs x h a 0 m_X1_seed [.ref x, .int n] 0 m_X6_seed [.ref (x + 87), .int n] := by
  have st0 := st
  obtain ⟨S, g, lf, gx, ⟨b, l, K, W, X⟩, sy, o97⟩ := st
  refine ⟨a.m 8, op1 (a' := (upd a.m 8 n, a.mi, a.hi, a.ws, a.T, a.len, a.ft)) st0 (ev_mono (c_xSeed K gx.1 gx.2.1 n) ?_) ?_⟩
  · rintro v h1 ⟨rfl, K1, F⟩
    obtain ⟨gb, sg, hn, hl, rk⟩ := gx
    have z := F.z
    have hS : ∀ k, InW (x + 1) k → ¬ S k := fun k z sk => by have := (sg k sk).1; unfold InW at z; omega
    have ag : AGR a.m (upd a.m 8 n) := ⟨⟨upd_ne (by omega), upd_ne (by omega), fun k hk => upd_ne (by omega)⟩, fun k hk => upd_ne (by omega)⟩
    exact ⟨rfl, S, 0, 0, ⟨gb, fun k sk => by have := sg k sk; omega, by omega, hl, rk.act K.2.1.pp.2 ag⟩, ⟨b, l, K1, (W.kp F (fun k z => by unfold InW at z; omega)).ag ag.1.1 ag.1.2.1 ag.1.2.2, X.keep F (fun k z => ⟨by unfold InW at z; unfold OF; omega, hS k z⟩)⟩, F.mono (fun k z => by unfold InW at z; unfold XF; omega) (Nat.le_refl _) (Nat.le_refl _), (by show 0 + 5600 * a.len ≤ _; omega), (by show 0 + 35 * a.len ≤ _; omega)⟩
  · intro h2 S g gx sx sy
    have hw := sx.sys.1
    obtain ⟨⟨q1, q2⟩, ⟨kp, q3, q3', q3''⟩, ⟨ad, q4⟩, ⟨ac, q5, q5'⟩, q6, ⟨fa, q7⟩, ⟨f8, q8⟩, ⟨f9, q9⟩, ⟨f10, q10⟩, q11⟩ := sy
    obtain ⟨k, R, e, er⟩ := c_ySeed (G := G) ⟨q1, q2⟩ n
    subst er
    have kk : ∀ {i : Nat} {e : am_C}, h2.1 (x + 87 + i) = some e → 2 ≤ i → (am_set (mh h2 (x + 87) (upd g 0 (nI 0))) (x + 87 + 1) (.inl (0, 769, .inl (upd a.m 8 n)))).1 (x + 87 + i) = some e := fun {i e} z h1 => am_set_k (am_set_k z (by omega)) (by omega)
    have F1 : HF (YF x) 0 0 h2 (mh h2 (x + 87) (upd g 0 (nI 0))) := (HF.set hw q1).mono (fun k z => by unfold YF; omega) (Nat.le_refl _) (Nat.le_refl _)
    exact ⟨k, _, e, _, _, rfl, ⟨_, rfl, fun _ => rfl⟩, ⟨upd g 0 (nI 0), ⟨⟨am_set_k am_set_at (by omega), am_set_at⟩, ⟨kp, kk q3 (by decide), q3', q3''⟩, ⟨ad, kk q4 (by decide)⟩, ⟨ac, kk q5 (by decide), q5'⟩, kk q6 (by decide), ⟨fa, kk q7 (by decide)⟩, ⟨f8, kk q8 (by decide)⟩, ⟨f9, kk q9 (by decide)⟩, ⟨f10, kk q10 (by decide)⟩, q11⟩, upd_eq⟩, HF.setP F1 (am_set_k q2 (by omega)) (by unfold YF; omega)⟩
theorem o_fault (st : STA G bs x h a) : OP1 G bs x h a 0 m_X1_fault [.ref x] 0 m_X6_fault [.ref (x + 87)] := by
  have st0 := st
  obtain ⟨S, g, lf, gx, ⟨b, l, K, W, X⟩, sy, o97⟩ := st
  obtain ⟨f, n, at_, bg, dp, r, tf⟩ := X.2.2.2.2.2.1
  have xs := xs_same gx ⟨b, l, K, W, X⟩
  refine ⟨a.ft, op1 (a' := a) st0 (wc_mono (fun R e => ?_) (c_xFault K.2.2.2.2.2.2.1 r)) ?_⟩
  · exact ⟨_, _, e, rfl, xs⟩
  · intro h2 S g gx sx sy
    have hw := sx.sys.1
    obtain ⟨k, R, e, er⟩ := c_yFault (G := G) sy.1
    subst er
    exact ⟨k, _, e, _, _, rfl, ⟨_, rfl, fun _ => sy.2.2.2.2.2.2.2.2.2.2.2.2.1⟩, ⟨_, SYg.num sy rfl rfl rfl rfl id, upd_eq⟩, (HF.set hw sy.1.1).mono (fun k z => by unfold YF; omega) (Nat.le_refl _) (Nat.le_refl _)⟩
/-- the reader alone has changed -/
theorem xs_rd {S : Nat → Prop} {b : Nat → Int32} {l : Value} {h1 : am_H} {T' : Nat → Int32} {len' : Nat} {ft' : Int32} {c s : Nat} (gx : GX bs x S h a) (K : HS G bs x (x + 1) S a.hi h a.m b l) (W : WB G bs x S h l a.m a.ws) (X : OX G bs x S a.hi h a.mi a.T a.len a.ft) (hl' : len' ≤ 400) (r : RX x h1 T' len' ft') (F : HF (isRT (x + 46)) c s h h1) (k1 : s + 5600 * len' ≤ 5600 * a.len + 112006) (k2 : c + 35 * len' ≤ 35 * a.len + 999) : XS G bs x h a h1 (a.m, a.mi, a.hi, a.ws, T', len', ft') := by
  obtain ⟨gb, sg, hn, hl, rk⟩ := gx
  have z := F.z
  have hS : ∀ k, isRT (x + 46) k → ¬ S k := fun k z sk => by have := (sg k sk).1; unfold isRT at z; omega
  obtain ⟨x1, x2, x3, x4, x5, x6, ⟨f7, x7⟩, x8⟩ := X
  refine ⟨S, c, s, ⟨gb, fun k sk => by have := sg k sk; omega, by omega, hl', rk⟩, ⟨b, l, K.kp F (fun k z => ?_), W.kp F (fun k z => by unfold isRT at z; omega), x1.keep F (fun k z => ⟨by unfold isRT at z; omega, hS k z⟩), x2.keep F (fun k z => by unfold isRT at z; omega), x3.keep F (fun k z => by unfold isRT at z; omega), x4.keep F (fun k z => by unfold isRT at z; omega), x5.keep F (fun k z => by unfold isRT at z; omega), r, ⟨f7, F.k x7 (by unfold isRT; omega)⟩, x8.keep F (fun k z => by unfold isRT at z; omega)⟩, F.mono (fun k z => by unfold isRT at z; unfold XF; omega) (Nat.le_refl _) (Nat.le_refl _), k1, k2⟩
  exact ⟨by unfold isRT at z; omega, by unfold isRT at z; unfold InW; omega, by unfold isRT at z; omega, by unfold isRT at z; omega, hS k z⟩
theorem o_feed (st : STA G bs x h a) (p q r s u : Int32) : OP1 G bs x h a 1 m_X1_feed [.ref x, .int p, .int q, .int r, .int s, .int u] 1 m_X6_feed [.ref (x + 87), .int p, .int q, .int r, .int s, .int u] := by
  have st0 := st
  obtain ⟨S, g, lf, gx, ⟨b, l, K, W, X⟩, sy, o97⟩ := st
  obtain ⟨f, n, at_, bg, dp, rr, tf⟩ := X.2.2.2.2.2.1
  have hl := gx.2.2.2.1
  by_cases c : 400 < a.len + 20
  · refine ⟨-1, op1 (a' := a) st0 (ev_mono (c_xFeed K.2.2.2.2.1 K.2.2.2.2.2.2.1 rr hl p q r s u) ?_) ?_⟩
    · rintro v h1 (⟨-, rfl, F⟩ | ⟨c2, -⟩)
      · exact ⟨rfl, xs_rd (len' := a.len) gx K W X hl (X.2.2.2.2.2.1.keep F (fun k z => z.elim)) (F.mono (fun k z => z.elim) (Nat.le_refl _) (Nat.le_refl _)) (by omega) (by omega)⟩
      · omega
    · intro h2 S g gx sx sy
      have hw := sx.sys.1
      obtain ⟨mm, qk, as, qac, tp, fa, f7, f8, f9, e3, e6, e8, e12, ez⟩ := id sy
      obtain ⟨k, R, e, er⟩ := c_yFeed (G := G) mm tp e8 hl p q r s u
      rw [if_pos c, if_pos c] at er
      subst er
      exact ⟨k, _, e, _, _, rfl, ⟨_, rfl, fun _ => rfl⟩, ⟨_, SYg.num sy rfl rfl rfl rfl id, upd_eq⟩, (HF.set hw mm.1).mono (fun k z => by unfold YF; omega) (Nat.le_refl _) (Nat.le_refl _)⟩
  · have tf' : TF (feN a.T a.len (fdB p q r s u) 20) (feN f a.len (sby (fv5 p q r s u)) 20) := fun k hk => by
      rw [feN_at, feN_at]
      by_cases d : a.len ≤ k ∧ k < a.len + 20
      · rw [if_pos d, if_pos d]
        exact ⟨bt_255 _, sby_fd (by omega)⟩
      · rw [if_neg d, if_neg d]; exact tf k hk
    refine ⟨nI (a.len + 20), op1 (a' := (a.m, a.mi, a.hi, a.ws, feN a.T a.len (fdB p q r s u) 20, a.len + 20, a.ft)) st0 (ev_mono (c_xFeed K.2.2.2.2.1 K.2.2.2.2.2.2.1 rr hl p q r s u) ?_) ?_⟩
    · rintro v h1 (⟨c2, -⟩ | ⟨-, rfl, r1, F⟩)
      · omega
      · exact ⟨rfl, xs_rd gx K W X (by omega) ⟨_, _, _, _, _, r1, tf'⟩ F (by omega) (by omega)⟩
    · intro h2 S g gx sx sy
      have hw := sx.sys.1
      obtain ⟨⟨q1, q2⟩, ⟨kp, q3, q3', q3''⟩, ⟨ad, q4⟩, ⟨ac, q5, q5'⟩, q6, ⟨fa, q7⟩, ⟨f8, q8⟩, ⟨f9, q9⟩, ⟨f10, q10⟩, e3, e6, e8, e12, ez⟩ := sy
      obtain ⟨k, R, e, er⟩ := c_yFeed (G := G) ⟨q1, q2⟩ q6 e8 hl p q r s u
      rw [if_neg c, if_neg c] at er
      subst er
      have kk : ∀ {i : Nat} {w : am_C}, h2.1 (x + 87 + i) = some w → 1 ≤ i → i ≠ 5 → (mh (am_set h2 (x + 87 + 5) (.inl (0, 400, .inl (feN a.T a.len (fdB p q r s u) 20)))) (x + 87) (upd (upd g 0 (nI 0)) 8 (nI (a.len + 20)))).1 (x + 87 + i) = some w := fun {i w} z h1 h5 => am_set_k (am_set_k z (by omega)) (by omega)
      have F1 : HF (YF x) 0 0 h2 (am_set h2 (x + 87 + 5) (.inl (0, 400, .inl (feN a.T a.len (fdB p q r s u) 20)))) := (HF.set hw q6).mono (fun k z => by unfold YF; omega) (Nat.le_refl _) (Nat.le_refl _)
      exact ⟨k, _, e, _, _, rfl, ⟨_, rfl, fun _ => rfl⟩, ⟨_, ⟨⟨am_set_at, kk q2 (by decide) (by decide)⟩, ⟨kp, kk q3 (by decide) (by decide), q3', q3''⟩, ⟨ad, kk q4 (by decide) (by decide)⟩, ⟨ac, kk q5 (by decide) (by decide), q5'⟩, am_set_k am_set_at (by omega), ⟨fa, kk q7 (by decide) (by decide)⟩, ⟨f8, kk q8 (by decide) (by decide)⟩, ⟨f9, kk q9 (by decide) (by decide)⟩, ⟨f10, kk q10 (by decide) (by decide)⟩, e3, e6, rfl, e12, ez⟩, rfl⟩, HF.setP F1 (am_set_k q1 (by omega)) (by unfold YF; omega)⟩
theorem c_xEnd {f : Nat → Int32} {len n : Nat} {at_ bg ft dp : Int32} {hi : Bool} (hw : HW h) (o : h.1 x = some (.inr (0, xobj x hi))) (r : RS h (x + 46) f len n at_ bg ft dp) (hl : len ≤ 400) (u : Int32) : Ev G 1 m_X1_end [.ref x, .int u] h (fun v h' => (inF u 0 (nI len) = false ∧ v = .int 0 ∧ h' = h) ∨ (∃ k, k ≤ len ∧ u = nI k ∧ inF u 0 (nI len) = true ∧ v = .int 1 ∧ RS h' (x + 46) f k n at_ bg ft dp ∧ HF (isRT (x + 46)) 0 0 h h')) := by
  refine wc_in mt_X1_end rfl (L := [.ref x, .int u]) rfl ?_
  refine r_aload_0 rfl ?_
  refine r_getf rfl o rfl ?_
  refine r_iload_1 rfl ?_
  refine r_invvR rfl rfl r.1 rfl rfl (by decide) (c_xCut r hl u) ?_
  rintro R (⟨e1, rfl⟩ | ⟨k, hk, e1, e2, rfl⟩)
  · show Wp G 1 mt_X1_end 8 _ _ _ _
    refine r_zret rfl (Or.inl rfl) ?_
    exact ⟨_, _, rfl, Or.inl ⟨e1, rfl, rfl⟩⟩
  · show Wp G 1 mt_X1_end 8 _ _ _ _
    refine r_zret rfl (Or.inr rfl) ?_
    exact ⟨_, _, rfl, Or.inr ⟨k, hk, e1, e2, rfl, ⟨am_set_at, am_set_k r.2 (by omega)⟩, (HF.set hw r.1).mono (fun z y => Or.inl y) (Nat.le_refl _) (Nat.le_refl _)⟩⟩
theorem o_end (st : STA G bs x h a) (u : Int32) : OP1 G bs x h a 1 m_X1_end [.ref x, .int u] 1 m_X6_end [.ref (x + 87), .int u] := by
  have st0 := st
  obtain ⟨S, g, lf, gx, ⟨b, l, K, W, X⟩, sy, o97⟩ := st
  obtain ⟨f, n, at_, bg, dp, rr, tf⟩ := X.2.2.2.2.2.1
  have hl := gx.2.2.2.1
  by_cases c : inF u 0 (nI a.len) = true
  · obtain ⟨k, hk, rfl⟩ := inF_nI (n := a.len + 1) (by omega) (by rw [← nI_1, show nI a.len + 1 - 1 = nI a.len by rw [nI_1, show (1 : Int32) = nI 1 from rfl, nI_sub (by omega)]; rfl]; exact c)
    refine ⟨1, op1 (a' := (a.m, a.mi, a.hi, a.ws, a.T, k, a.ft)) st0 (ev_mono (c_xEnd K.2.2.2.2.1 K.2.2.2.2.2.2.1 rr hl (nI k)) ?_) ?_⟩
    · rintro v h1 (⟨e1, -⟩ | ⟨k2, hk2, e1, e2, rfl, r1, F⟩)
      · rw [e1] at c; cases c
      · have := nI_inj (by omega) (by omega) e1
        subst this
        exact ⟨rfl, xs_rd gx K W X (by omega) ⟨_, _, _, _, _, r1, tf⟩ F (by omega) (by omega)⟩
    · intro h2 S g gx sx sy
      have hw := sx.sys.1
      obtain ⟨⟨q1, q2⟩, ⟨kp, q3, q3', q3''⟩, ⟨ad, q4⟩, ⟨ac, q5, q5'⟩, q6, ⟨fa, q7⟩, ⟨f8, q8⟩, ⟨f9, q9⟩, ⟨f10, q10⟩, e3, e6, e8, e12, ez⟩ := sy
      obtain ⟨j, R, e, er⟩ := c_yEnd (G := G) ⟨q1, q2⟩ (nI k)
      rw [e8, c, if_pos rfl] at er
      subst er
      exact ⟨j, _, e, _, _, rfl, ⟨_, rfl, fun _ => rfl⟩, ⟨_, ⟨⟨am_set_at, am_set_k q2 (by omega)⟩, ⟨kp, am_set_k q3 (by omega), q3', q3''⟩, ⟨ad, am_set_k q4 (by omega)⟩, ⟨ac, am_set_k q5 (by omega), q5'⟩, am_set_k q6 (by omega), ⟨fa, am_set_k q7 (by omega)⟩, ⟨f8, am_set_k q8 (by omega)⟩, ⟨f9, am_set_k q9 (by omega)⟩, ⟨f10, am_set_k q10 (by omega)⟩, e3, e6, rfl, e12, ez⟩, rfl⟩, (HF.set hw q1).mono (fun k z => by unfold YF; omega) (Nat.le_refl _) (Nat.le_refl _)⟩
  · refine ⟨0, op1 (a' := a) st0 (ev_mono (c_xEnd K.2.2.2.2.1 K.2.2.2.2.2.2.1 rr hl u) ?_) ?_⟩
    · rintro v h1 (⟨e1, rfl, rfl⟩ | ⟨k2, hk2, e1, e2, -⟩)
      · exact ⟨rfl, xs_same gx ⟨b, l, K, W, X⟩⟩
      · exact absurd e2 c
    · intro h2 S g gx sx sy
      have hw := sx.sys.1
      have e8 : g 8 = nI a.len := sy.2.2.2.2.2.2.2.2.2.2.2.1
      obtain ⟨j, R, e, er⟩ := c_yEnd (G := G) sy.1 u
      rw [e8, Bool.eq_false_iff.mpr c, if_neg (by decide)] at er
      subst er
      exact ⟨j, _, e, _, _, rfl, ⟨_, rfl, fun _ => rfl⟩, ⟨_, SYg.num sy rfl rfl rfl rfl id, upd_eq⟩, (HF.set hw sy.1.1).mono (fun k z => by unfold YF; omega) (Nat.le_refl _) (Nat.le_refl _)⟩
end
