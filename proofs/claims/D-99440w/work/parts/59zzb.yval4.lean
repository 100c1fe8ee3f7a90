/-! THE VALLEY'S TEXT: the model reads all lines; the valley -/
set_option maxRecDepth 100000
theorem vline_sk {T m : Nat → Int32} {e a : Nat} : vlineF T e m (skF T e a) = vlineF T e m a := by
  unfold vlineF
  simp only [wd_sk, wb_sk, sk_idem]
section
variable {T : Nat → Int32} {e y bs : Nat} {g g' m m0 r : Nat → Int32} {h : am_H} {G : am_G} {F : Fc}
/-- what reading the valley answers -/
def mRv (h : am_H) (y e : Nat) (g m0 : Nat → Int32) (res : RD (Nat → Int32)) (R : am_O) : Prop := (∃ m' n, res = .inr (m', e) ∧ RO m0 m' ∧ R = .inl (some (.int n), mK (hr h y m') y g e)) ∨ (∃ z a9 dp m' n, res = .inl z ∧ z ≤ e ∧ (∀ k, 129 ≤ k → m' k = m0 k) ∧ R = .inl (some (.int n), mh (hr h y m') y (gF g z a9 dp)))
theorem kRvF (ag : ∀ k, 129 ≤ k → m k = m0 k) {z : Nat} {at_ dp n go : Int32} (hz : z ≤ e) (he : e ≤ 400) : Wp G 31 mt_X6_read 23 [.ref y, .int 0, .int go, .int n] [] (mh (hr h y m) y (gF g z at_ dp)) (mRv h y e g m0 (.inl z)) := by
  have fin : Wp G 31 mt_X6_read 144 [.ref y, .int 0, .int go, .int n] [] (mh (hr h y m) y (gF g z at_ dp)) (mRv h y e g m0 (.inl z)) := by
    refine r_iload_3 rfl ?_
    refine r_iret rfl ?_
    exact Or.inr ⟨_, _, _, m, _, rfl, hz, ag, rfl⟩
  refine r_iload_2 rfl ?_
  refine r_ifeq rfl (fun c => fin) (fun c => ?_)
  refine r_aload_0 rfl ?_
  refine r_getf rfl am_set_at rfl ?_
  refine r_push rfl ?_
  refine r_icneT rfl (by rw [gF_12]; exact nI_ne1 (by omega)) fin
theorem kRvL (S : MS G bs h y g T e F) (h9 : g 9 = -1) (h12 : g 12 = -1) : ∀ n k a (m : Nat → Int32), k + n = 15 ∧ k ≤ 14 → RO m0 m → a ≤ e → Wp G 31 mt_X6_read 23 [.ref y, .int 0, .int 1, .int (nI k)] [] (mK (hr h y m) y g a) (mRv h y e g m0 (lnL T e 14 (vlineF T e) n k m a))
  | 0, _, _, _, hn, _, _ => absurd hn (by omega)
  | n + 1, k, a, m, hn, ro, ha => by
    have he := S.e400
    have hs := sk_le T ha
    have S1 := S.row h9 m
    have ag : ∀ k, 129 ≤ k → m k = m0 k := ro.2.2.2.2.2
    have ks := kSkip (G := G) S1 ha
    refine r_iload_2 rfl ?_
    refine r_ifeqF rfl (by decide) ?_
    refine r_aload_0 rfl ?_
    refine r_getf rfl am_set_at rfl ?_
    refine r_push rfl ?_
    refine r_icneF rfl h12 ?_
    refine r_aload_0 rfl ?_
    refine r_invvV rfl rfl am_set_at rfl rfl (by decide) ks ?_
    refine r_iload_3 rfl ?_
    refine r_iload_1 rfl ?_
    refine r_ifeqT rfl rfl ?_
    refine r_push rfl ?_
    by_cases hk : k = 14
    · subst hk
      have el : lnL T e 14 (vlineF T e) (n + 1) 14 m a = .inl (skF T e a) := by rw [lnL, if_pos rfl]
      rw [el]
      refine r_icneF rfl rfl ?_
      refine r_aload_0 rfl ?_
      refine r_aload_0 rfl ?_
      refine r_getf rfl am_set_at rfl ?_
      rw [upd_eq]
      refine r_invvV rfl rfl am_set_at rfl rfl (by decide) (kWrong h12) ?_
      refine r_goto rfl ?_
      refine r_iinc_3 rfl ?_
      refine r_aload_0 rfl ?_
      refine r_invvV rfl rfl am_set_at rfl rfl (by decide) (kSkipX S1 hs) ?_
      refine r_aload_0 rfl ?_
      refine r_getf rfl am_set_at rfl ?_
      refine r_push rfl ?_
      refine r_icneT rfl (by rw [gF_12]; exact nI_ne1 (by omega)) ?_
      refine r_push rfl ?_
      refine r_istore_2 rfl ?_
      refine r_goto rfl ?_
      exact kRvF ag hs he
    · have el : lnL T e 14 (vlineF T e) (n + 1) k m a = rB (vlineF T e m a) fun m a => if skF T e a = e then .inr (m, e) else if T (skF T e a) = 59 then lnL T e 14 (vlineF T e) n (k + 1) m (skF T e a + 1) else .inl (skF T e a) := by rw [lnL, if_neg hk]
      rw [el]
      refine r_icneT rfl (fun z => hk ((nI_eq (a := k) (b := 14) (by omega) (by decide)).mp z)) ?_
      refine r_iload_1 rfl ?_
      refine r_ifeqT rfl rfl ?_
      refine r_aload_0 rfl ?_
      have kl := kValLine (G := G) S h9 h12 ro.1 hs
      rw [vline_sk] at kl
      refine r_invvR rfl rfl am_set_at rfl rfl (by decide) kl ?_
      rintro R (⟨m2, a2, q1, q2, rfl⟩ | ⟨z, a9, dp, q1, q2, q9, rfl⟩)
      · rw [q1]
        show Wp G 31 mt_X6_read 80 _ _ (mK (hr h y m2) y g a2) (mRv h y e g m0 (if skF T e a2 = e then .inr (m2, e) else if T (skF T e a2) = 59 then lnL T e 14 (vlineF T e) n (k + 1) m2 (skF T e a2 + 1) else .inl (skF T e a2)))
        have ro2 := ro.trans (vline_ok ro.1 ro.2.1 q1)
        have hs2 := sk_le T q2
        have S2 := S.row h9 m2
        have ks2 := kSkip (G := G) S2 q2
        have ge : (upd g 11 (nI (skF T e a2))) 10 = nI e := S.1.2.2.1
        refine r_iinc_3 rfl ?_
        rw [nI_1]
        refine r_aload_0 rfl ?_
        refine r_invvV rfl rfl am_set_at rfl rfl (by decide) ks2 ?_
        refine r_aload_0 rfl ?_
        refine r_getf rfl am_set_at rfl ?_
        refine r_push rfl ?_
        refine r_icneF rfl h12 ?_
        refine r_aload_0 rfl ?_
        refine r_getf rfl am_set_at rfl ?_
        refine r_aload_0 rfl ?_
        refine r_getf rfl am_set_at rfl ?_
        rw [upd_eq, ge]
        by_cases ce : skF T e a2 = e
        · rw [if_pos ce, ce]
          refine r_icneF rfl rfl ?_
          refine r_push rfl ?_
          refine r_istore_2 rfl ?_
          refine r_goto rfl ?_
          refine r_iload_2 rfl ?_
          refine r_ifeqT rfl rfl ?_
          refine r_iload_3 rfl ?_
          refine r_iret rfl ?_
          exact Or.inl ⟨_, _, rfl, ro2, rfl⟩
        · rw [if_neg ce]
          refine r_icneT rfl (fun z => ce ((nI_eq (by omega) (by omega)).mp z)) ?_
          refine r_aload_0 rfl ?_
          refine r_push rfl ?_
          have kg := kSign (G := G) S2 hs2 (c := 59)
          rw [sg_sk, sk_idem] at kg
          have es : sgF T e a2 59 = decide (T (skF T e a2) = 59) := by unfold sgF; rw [decide_eq_true (show skF T e a2 < e by omega), Bool.true_and]
          rw [es] at kg
          refine r_invvU rfl rfl am_set_at rfl rfl (by decide) kg ?_
          by_cases c59 : T (skF T e a2) = 59
          · rw [if_pos c59, decide_eq_true c59]
            refine r_ifeqF rfl (by decide) ?_
            refine r_aload_0 rfl ?_
            refine r_dupR rfl ?_
            refine r_getf rfl am_set_at rfl ?_
            rw [upd_eq]
            refine r_push rfl ?_
            refine r_iadd rfl ?_
            rw [nI_1]
            refine r_puti rfl am_set_at rfl ?_
            rw [mo_11, upd_upd, am_set_set]
            refine r_goto rfl ?_
            exact kRvL S h9 h12 n (k + 1) (skF T e a2 + 1) m2 ⟨by omega, by omega⟩ ro2 (by omega)
          · rw [if_neg c59, decide_eq_false c59]
            refine r_ifeqT rfl rfl ?_
            refine r_aload_0 rfl ?_
            refine r_aload_0 rfl ?_
            refine r_getf rfl am_set_at rfl ?_
            rw [upd_eq]
            refine r_invvV rfl rfl am_set_at rfl rfl (by decide) (kWrong h12) ?_
            refine r_goto rfl ?_
            exact kRvF ro2.2.2.2.2.2 hs2 he
      · rw [q1]
        show Wp G 31 mt_X6_read 80 _ _ (mh (hr h y m) y (gF g z (nI a9) dp)) (mRv h y e g m0 (.inl z))
        refine r_iinc_3 rfl ?_
        refine r_aload_0 rfl ?_
        refine r_invvV rfl rfl am_set_at rfl rfl (by decide) (kSkipX S1 q9) ?_
        refine r_aload_0 rfl ?_
        refine r_getf rfl am_set_at rfl ?_
        refine r_push rfl ?_
        refine r_icneT rfl (by rw [gF_12]; exact nI_ne1 (by omega)) ?_
        refine r_push rfl ?_
        refine r_istore_2 rfl ?_
        refine r_goto rfl ?_
        exact kRvF ag q2 he
theorem kReadVal (S : MS G bs h y g T e F) (h9 : g 9 = -1) (h12 : g 12 = -1) (v : VR m) (lb : LB m) : Wc G 31 m_X6_read [.ref y, .int 0] (mK (hr h y m) y g 0) (mRv h y e g m (valF T e m)) := by
  have he := S.e400
  have hs := sk_le T (Nat.zero_le e)
  have S1 := S.row h9 m
  have ge : (upd g 11 (nI (skF T e 0))) 10 = nI e := S.1.2.2.1
  refine wc_in mt_X6_read rfl (L := [.ref y, .int 0, am_un, am_un]) rfl ?_
  refine r_aload_0 rfl ?_
  refine r_invvV rfl rfl am_set_at rfl rfl (by decide) (kSkip S1 (Nat.zero_le e)) ?_
  refine r_aload_0 rfl ?_
  refine r_getf rfl am_set_at rfl ?_
  refine r_aload_0 rfl ?_
  refine r_getf rfl am_set_at rfl ?_
  rw [upd_eq, ge]
  by_cases c0 : skF T e 0 = e
  · have el : valF T e m = .inr (m, e) := by unfold valF linesF; rw [if_pos c0]
    rw [el, c0]
    refine r_icgeT rfl (Int32.le_refl _) ?_
    refine r_push rfl ?_
    refine r_istore_2 rfl ?_
    refine r_push rfl ?_
    refine r_istore_3 rfl ?_
    refine r_iload_2 rfl ?_
    refine r_ifeqT rfl rfl ?_
    refine r_iload_3 rfl ?_
    refine r_iret rfl ?_
    exact Or.inl ⟨m, _, rfl, RO.refl v lb, rfl⟩
  · have el : valF T e m = lnL T e 14 (vlineF T e) 15 0 m (skF T e 0) := by unfold valF linesF; rw [if_neg c0]
    rw [el]
    refine r_icgeF rfl (nI_lt (by omega) (by omega)) ?_
    refine r_push rfl ?_
    refine r_goto rfl ?_
    refine r_istore_2 rfl ?_
    refine r_push rfl ?_
    refine r_istore_3 rfl ?_
    exact kRvL S h9 h12 15 0 (skF T e 0) m ⟨rfl, by decide⟩ (RO.refl v lb) hs
theorem c_yValley {len : Nat} {fa ad : Nat → Int32} (q : MM h y g m) (v : VR m) (lb : LB m) (og : OG G bs h) (hb : bs ≤ y) (qt : h.1 (y + 5) = some (.inl (0, 400, .inl T))) (qf : h.1 (y + 6) = some (.inl (0, 7, .inl fa))) (qa : h.1 (y + 3) = some (.inl (0, 369, .inl ad))) (bz : Bz (g 15) ∧ Bz (g 16)) (e8 : g 8 = nI len) (hl : len ≤ 400) : Ev G 33 m_X6_valley [.ref y] h (fun v h' => (∃ m' g', valF T len m = .inr (m', len) ∧ RO m m' ∧ m 0 ≠ 12 ∧ v = .int (m 0 + 1) ∧ LG g g' 0 (-1) 0 ∧ h' = mh (hr (am_set h (y + 3) (.inl (0, 369, .inl (cpN m ad 0 0 369)))) y (upd m' 0 (m 0 + 1))) y g') ∨ (∃ z g', valF T len m = .inl z ∧ z ≤ len ∧ v = .int 0 ∧ LG g g' 1 (nI z) (g 6) ∧ h' = mh (hr (am_set h (y + 3) (.inl (0, 369, .inl (cpN m ad 0 0 369)))) y m) y g') ∨ (∃ m' g', valF T len m = .inr (m', len) ∧ m 0 = 12 ∧ v = .int 0 ∧ LG g g' 2 (-1) (g 6) ∧ h' = mh (hr (am_set h (y + 3) (.inl (0, 369, .inl (cpN m ad 0 0 369)))) y m) y g')) := by
  have pa := c_mputsAside (G := G) q qa
  have q1 : MM (am_set h (y + 3) (.inl (0, 369, .inl (cpN m ad 0 0 369)))) y g m := ⟨am_set_k q.1 (by omega), am_set_k q.2 (by omega)⟩
  have og1 : OG G bs (am_set h (y + 3) (.inl (0, 369, .inl (cpN m ad 0 0 369)))) := og.same (fun a e9 z9 q9 => am_set_k q9 (by omega))
  have qt1 : (am_set h (y + 3) (.inl (0, 369, .inl (cpN m ad 0 0 369)))).1 (y + 5) = some (.inl (0, 400, .inl T)) := am_set_k qt (by omega)
  have qf1 : (am_set h (y + 3) (.inl (0, 369, .inl (cpN m ad 0 0 369)))).1 (y + 6) = some (.inl (0, 7, .inl fa)) := am_set_k qf (by omega)
  have qa1 : (am_set h (y + 3) (.inl (0, 369, .inl (cpN m ad 0 0 369)))).1 (y + 3) = some (.inl (0, 369, .inl (cpN m ad 0 0 369))) := am_set_at
  generalize am_set h (y + 3) (.inl (0, 369, .inl (cpN m ad 0 0 369))) = h1 at *
  have S := ms_begun q1 og1 hb qt1 qf1 bz e8 hl
  have rd := kReadVal (m := m) S rfl rfl v lb
  have e0 : mK (hr (mh h1 y (gB g)) y m) y (gB g) 0 = mh h1 y (gB g) := by
    rw [show hr (mh h1 y (gB g)) y m = mh h1 y (gB g) from am_set_id (am_set_k q1.2 (by omega))]
    exact mK_id am_set_at rfl
  rw [e0] at rd
  have hx : ∀ {m' g' : Nat → Int32}, mh (hr (mh h1 y (gB g)) y m') y g' = mh (hr h1 y m') y g' := by
    intro m' g'
    show am_set (am_set (am_set h1 y _) (y + 1) _) y _ = _
    rw [am_set_comm (a := y) (c := y + 1) (by omega), am_set_set]
  have back : ∀ {m' : Nat → Int32}, (∀ k, 129 ≤ k → m' k = m k) → cpN (cpN m ad 0 0 369) m' 0 0 369 = m := by
    intro m' ag
    funext k
    rw [cpN_at]
    by_cases c : k < 369
    · rw [if_pos (by omega), cpN_at, if_pos (by omega)]; congr 1; omega
    · rw [if_neg (by omega)]; exact ag k (by omega)
  refine wc_in mt_X6_valley rfl (L := [.ref y, am_un]) rfl ?_
  refine r_aload_0 rfl ?_
  refine r_invvV rfl rfl q.1 rfl rfl (by decide) pa ?_
  refine r_aload_0 rfl ?_
  refine r_invvV rfl rfl q1.1 rfl rfl (by decide) (c_yBegins q1.1) ?_
  refine r_aload_0 rfl ?_
  refine r_push rfl ?_
  refine r_invvR rfl rfl am_set_at rfl rfl (by decide) rd ?_
  rintro R (⟨m', n, e1, ro, rfl⟩ | ⟨z, a9, dp, m', n, e1, e2, ag, rfl⟩)
  · show Wp G 33 mt_X6_valley 13 _ _ (mh (hr (mh h1 y (gB g)) y m') y (upd (gB g) 11 (nI len))) _
    rw [hx]
    have o1 : ∀ {g'}, (mh (hr h1 y m') y g').1 (y + 1) = some (.inl (0, 769, .inl m')) := am_set_k am_set_at (by omega)
    have m0 : m' 0 = m 0 := ro.2.2.1
    by_cases c12 : m 0 = 12
    · have mm : MM (mh (hr h1 y m') y (upd (upd (gB g) 11 (nI len)) 0 2)) y (upd (upd (gB g) 11 (nI len)) 0 2) m' := mmK
      have cb := c_mcomesBack (G := G) mm (a := cpN m ad 0 0 369) (am_set_k (am_set_k qa1 (by omega)) (by omega))
      rw [back ro.2.2.2.2.2, hr_row] at cb
      refine r_istore_1 rfl ?_
      refine r_aload_0 rfl ?_
      refine r_aload_0 rfl ?_
      refine r_getf rfl (am_set_at) (by rfl) ?_
      refine r_push rfl ?_
      refine r_iceqT rfl (rfl) ?_
      refine r_aload_0 rfl ?_
      refine r_getf rfl (am_set_at) (by rfl) ?_
      refine r_push rfl ?_
      refine r_iald rfl (o1) (show (0 : Int32) = nI 0 from rfl) (by first | assumption | omega) (by first | decide | omega) ?_
      refine r_push rfl ?_
      refine r_icneF rfl (m0.trans c12) ?_
      refine r_push rfl ?_
      refine r_goto rfl ?_
      refine r_puti rfl (am_set_at) rfl ?_
      rw [mo_0, am_set_set]
      refine r_aload_0 rfl ?_
      refine r_getf rfl (am_set_at) (by rfl) ?_
      refine r_ifleF rfl (by rw [upd_eq]; decide) ?_
      refine r_aload_0 rfl ?_
      refine r_invvV rfl rfl (am_set_at) rfl rfl (by decide) (cb) ?_
      refine r_push rfl ?_
      refine r_iret rfl ?_
      exact ⟨_, _, rfl, Or.inr (Or.inr ⟨m', upd (upd (gB g) 11 (nI len)) 0 2, e1, c12, rfl, ⟨rfl, rfl, rfl, rfl, rfl, id⟩, rfl⟩)⟩
    · refine r_istore_1 rfl ?_
      refine r_aload_0 rfl ?_
      refine r_aload_0 rfl ?_
      refine r_getf rfl (am_set_at) (by rfl) ?_
      refine r_push rfl ?_
      refine r_iceqT rfl (rfl) ?_
      refine r_aload_0 rfl ?_
      refine r_getf rfl (am_set_at) (by rfl) ?_
      refine r_push rfl ?_
      refine r_iald rfl (o1) (show (0 : Int32) = nI 0 from rfl) (by first | assumption | omega) (by first | decide | omega) ?_
      refine r_push rfl ?_
      refine r_icneT rfl (by rw [m0]; exact c12) ?_
      refine r_push rfl ?_
      refine r_puti rfl (am_set_at) rfl ?_
      rw [mo_0, am_set_set]
      refine r_aload_0 rfl ?_
      refine r_getf rfl (am_set_at) (by rfl) ?_
      refine r_ifleT rfl (by rw [upd_eq]; decide) ?_
      refine r_aload_0 rfl ?_
      refine r_getf rfl (am_set_at) (by rfl) ?_
      refine r_push rfl ?_
      refine r_dup2 rfl ?_
      refine r_iald rfl (o1) (show (0 : Int32) = nI 0 from rfl) (by first | assumption | omega) (by first | decide | omega) ?_
      refine r_push rfl ?_
      refine r_iadd rfl ?_
      refine r_iast rfl (o1) (show (0 : Int32) = nI 0 from rfl) (by first | assumption | omega) (by first | decide | omega) ?_
      rw [hr_row, m0]
      refine r_aload_0 rfl ?_
      refine r_push rfl ?_
      refine r_puti rfl (am_set_at) rfl ?_
      rw [mo_6, am_set_set]
      refine r_aload_0 rfl ?_
      refine r_getf rfl (am_set_at) (by rfl) ?_
      refine r_push rfl ?_
      refine r_iald rfl (mmK.2) (show (0 : Int32) = nI 0 from rfl) (by first | assumption | omega) (by first | decide | omega) ?_
      refine r_iret rfl ?_
      exact ⟨_, _, rfl, Or.inl ⟨m', upd (upd (upd (gB g) 11 (nI len)) 0 0) 6 0, e1, ro, c12, rfl, ⟨rfl, rfl, rfl, rfl, rfl, id⟩, rfl⟩⟩
  · show Wp G 33 mt_X6_valley 13 _ _ (mh (hr (mh h1 y (gB g)) y m') y (gF (gB g) z a9 dp)) _
    rw [hx]
    have mm : MM (mh (hr h1 y m') y (upd (gF (gB g) z a9 dp) 0 1)) y (upd (gF (gB g) z a9 dp) 0 1) m' := mmK
    have cb := c_mcomesBack (G := G) mm (a := cpN m ad 0 0 369) (am_set_k (am_set_k qa1 (by omega)) (by omega))
    rw [back ag, hr_row] at cb
    refine r_istore_1 rfl ?_
    refine r_aload_0 rfl ?_
    refine r_aload_0 rfl ?_
    refine r_getf rfl (am_set_at) (by rfl) ?_
    refine r_push rfl ?_
    refine r_iceqF rfl (by rw [gF_12]; exact nI_ne1 (by omega)) ?_
    refine r_push rfl ?_
    refine r_goto rfl ?_
    refine r_puti rfl (am_set_at) rfl ?_
    rw [mo_0, am_set_set]
    refine r_aload_0 rfl ?_
    refine r_getf rfl (am_set_at) (by rfl) ?_
    refine r_ifleF rfl (by rw [upd_eq]; decide) ?_
    refine r_aload_0 rfl ?_
    refine r_invvV rfl rfl (am_set_at) rfl rfl (by decide) (cb) ?_
    refine r_push rfl ?_
    refine r_iret rfl ?_
    exact ⟨_, _, rfl, Or.inr (Or.inl ⟨z, upd (gF (gB g) z a9 dp) 0 1, e1, e2, rfl, ⟨rfl, rfl, rfl, rfl, rfl, id⟩, rfl⟩)⟩
end
