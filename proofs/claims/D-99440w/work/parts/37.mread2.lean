/-! THE MODEL reads: all lines of the law -/
set_option maxRecDepth 100000
section
variable {T : Nat → Int32} {e y bs : Nat} {g g' : Nat → Int32} {h : am_H} {G : am_G} {F : Fc}
/-- what reading the law answers -/
def mRd (h : am_H) (y e : Nat) (g : Nat → Int32) (F : Fc) (res : RD (List Ln)) (R : am_O) : Prop := (∃ ls, res = .inr (ls, e) ∧ ls.length ≤ 12 ∧ R = .inl (some (.int (nI ls.length)), mK h y (sumG g F ls) e)) ∨ (∃ z a9 dp ls n, res = .inl z ∧ z ≤ e ∧ R = .inl (some (.int n), mh h y (gF (sumG g F ls) z a9 dp)))
/-- behind a fault -/
theorem kRdF {ls : List Ln} {z : Nat} {at_ dp n go : Int32} (hz : z ≤ e) (he : e ≤ 400) : Wp G 31 mt_X6_read 23 [.ref y, .int 1, .int go, .int n] [] (mh h y (gF (sumG g F ls) z at_ dp)) (mRd h y e g F (.inl z)) := by
  have fin : Wp G 31 mt_X6_read 144 [.ref y, .int 1, .int go, .int n] [] (mh h y (gF (sumG g F ls) z at_ dp)) (mRd h y e g F (.inl z)) := by
    refine r_iload_3 rfl ?_
    refine r_iret rfl ?_
    exact Or.inr ⟨_, _, _, ls, _, rfl, hz, rfl⟩
  refine r_iload_2 rfl ?_
  refine r_ifeq rfl (fun c => fin) (fun c => ?_)
  refine r_aload_0 rfl ?_
  refine r_getf rfl am_set_at rfl ?_
  refine r_push rfl ?_
  refine r_icneT rfl (by rw [gF_12]; exact nI_ne1 (by omega)) fin
theorem MS.gF' (S : MS G bs h y g T e F) {ls : List Ln} {z : Nat} {at_ dp : Int32} : MS G bs (mh h y (gF (sumG g F ls) z at_ dp)) y (gF (sumG g F ls) z at_ dp) T e F := S.set rfl rfl rfl rfl
/-- it skips on behind a fault -/
theorem kSkipF (S : MS G bs h y g T e F) {ls : List Ln} {z a9 : Nat} {dp : Int32} (ha : a9 ≤ e + 6) : Un G 1 m_X6_skip [.ref y] (mh h y (gF (sumG g F ls) z (nI a9) dp)) (mh h y (gF (sumG g F ls) z (nI (skF T e a9)) dp)) := by
  have he := S.e400
  have S9 : MS G bs (mh h y (gF (sumG g F ls) z (nI a9) dp)) y (gF (sumG g F ls) z (nI a9) dp) T e F := S.gF'
  by_cases hz : a9 ≤ e
  · have kz := kSkip (G := G) S9 hz
    rw [mK_mh, mK_mh] at kz
    rw [show mK h y (gF (sumG g F ls) z (nI a9) dp) a9 = mh h y (gF (sumG g F ls) z (nI a9) dp) by show mh h y (upd _ 11 _) = _; rw [gF_u11]] at kz
    rw [show mK h y (gF (sumG g F ls) z (nI a9) dp) (skF T e a9) = mh h y (gF (sumG g F ls) z (nI (skF T e a9)) dp) by show mh h y (upd _ 11 _) = _; rw [gF_u11]] at kz
    exact kz
  · have e1 : skF T e a9 = a9 := scan_stop (fun y => absurd y (by omega))
    have ge : gF (sumG g F ls) z (nI a9) dp 10 = nI e := S.1.2.2.1
    rw [e1]
    refine wc_in mt_X6_skip rfl (L := [.ref y]) rfl ?_
    refine r_aload_0 rfl ?_
    refine r_getf rfl am_set_at rfl ?_
    refine r_aload_0 rfl ?_
    refine r_getf rfl am_set_at rfl ?_
    rw [ge, show gF (sumG g F ls) z (nI a9) dp 11 = nI a9 from rfl]
    refine r_icgeT rfl (nI_le (by omega) (by omega)) ?_
    exact r_vret rfl rfl
theorem kRdL (S : MS G bs h y g T e F) (h12 : g 12 = -1) (h13 : g 13 = 0) : ∀ n k a (ls : List Ln), k + n = 13 ∧ k ≤ 12 → ls.length = k → a ≤ e → Wp G 31 mt_X6_read 23 [.ref y, .int 1, .int 1, .int (nI k)] [] (mK h y (sumG g F ls) a) (mRd h y e g F (lnL T e 12 (llineF T e) n k ls a))
  | 0, _, _, _, hn, _, _ => absurd hn (by omega)
  | n + 1, k, a, ls, hn, hl, ha => by
    have he := S.e400
    have hs := sk_le T ha
    have S1 : MS G bs (mh h y (sumG g F ls)) y (sumG g F ls) T e F := S.set rfl rfl rfl rfl
    have ks := kSkip (G := G) S1 ha
    rw [mK_mh, mK_mh] at ks
    refine r_iload_2 rfl ?_
    refine r_ifeqF rfl (by decide) ?_
    refine r_aload_0 rfl ?_
    refine r_getf rfl am_set_at rfl ?_
    refine r_push rfl ?_
    refine r_icneF rfl h12 ?_
    refine r_aload_0 rfl ?_
    refine r_invvV rfl rfl am_set_at rfl rfl (by decide) ks ?_
    refine r_iload_3 rfl ?_
    refine r_iload_1 rfl ?_
    refine r_ifeqF rfl (by decide) ?_
    refine r_push rfl ?_
    refine r_goto rfl ?_
    by_cases hk : k = 12
    · subst hk
      have el : lnL T e 12 (llineF T e) (n + 1) 12 ls a = .inl (skF T e a) := by rw [lnL, if_pos rfl]
      rw [el]
      refine r_icneF rfl rfl ?_
      refine r_aload_0 rfl ?_
      refine r_aload_0 rfl ?_
      refine r_getf rfl am_set_at rfl ?_
      rw [upd_eq]
      refine r_invvV rfl rfl am_set_at rfl rfl (by decide) (kWrong (g := sumG g F ls) h12) ?_
      refine r_goto rfl ?_
      refine r_iinc_3 rfl ?_
      refine r_aload_0 rfl ?_
      obtain ⟨a9, e9⟩ : ∃ a9, skF T e a = a9 := ⟨_, rfl⟩
      have S9 : MS G bs (mh h y (gF (sumG g F ls) (skF T e a) (nI (skF T e a)) (sumG g F ls 13))) y (gF (sumG g F ls) (skF T e a) (nI (skF T e a)) (sumG g F ls 13)) T e F := S.gF'
      have kz := kSkip (G := G) S9 hs
      rw [mK_mh, mK_mh] at kz
      rw [show mK h y (gF (sumG g F ls) (skF T e a) (nI (skF T e a)) (sumG g F ls 13)) (skF T e a) = mh h y (gF (sumG g F ls) (skF T e a) (nI (skF T e a)) (sumG g F ls 13)) by show mh h y (upd _ 11 _) = _; rw [gF_u11]] at kz
      refine r_invvV rfl rfl am_set_at rfl rfl (by decide) kz ?_
      rw [show mK h y (gF (sumG g F ls) (skF T e a) (nI (skF T e a)) (sumG g F ls 13)) (skF T e (skF T e a)) = mh h y (gF (sumG g F ls) (skF T e a) (nI (skF T e (skF T e a))) (sumG g F ls 13)) by show mh h y (upd _ 11 _) = _; rw [gF_u11]]
      refine r_aload_0 rfl ?_
      refine r_getf rfl am_set_at rfl ?_
      refine r_push rfl ?_
      refine r_icneT rfl (by rw [gF_12]; exact nI_ne1 (by omega)) ?_
      refine r_push rfl ?_
      refine r_istore_2 rfl ?_
      refine r_goto rfl ?_
      exact kRdF hs he
    · have el : lnL T e 12 (llineF T e) (n + 1) k ls a = rB (llineF T e ls a) fun m a => if skF T e a = e then .inr (m, e) else if T (skF T e a) = 59 then lnL T e 12 (llineF T e) n (k + 1) m (skF T e a + 1) else .inl (skF T e a) := by rw [lnL, if_neg hk]
      rw [el]
      refine r_icneT rfl (fun z => hk ((nI_eq (a := k) (b := 12) (by omega) (by decide)).mp z)) ?_
      refine r_iload_1 rfl ?_
      refine r_ifeqF rfl (by decide) ?_
      refine r_aload_0 rfl ?_
      have kl := kLawLine (G := G) S1 hs h12 h13
      rw [mK_mh, line_sk] at kl
      refine r_invvR rfl rfl am_set_at rfl rfl (by decide) kl ?_
      rintro R (⟨l, a2, q1, q2, rfl⟩ | ⟨z, a9, dp, q1, q2, q9, rfl⟩)
      · have ell : llineF T e ls a = .inr (ls ++ [l], a2) := by unfold llineF; rw [q1]; rfl
        rw [ell]
        show Wp G 31 mt_X6_read 73 _ _ (mK (mh h y (sumG g F ls)) y (sumG (sumG g F ls) F [l]) a2) (mRd h y e g F (if skF T e a2 = e then .inr (ls ++ [l], e) else if T (skF T e a2) = 59 then lnL T e 12 (llineF T e) n (k + 1) (ls ++ [l]) (skF T e a2 + 1) else .inl (skF T e a2)))
        rw [mK_mh, sumG_app]
        have hs2 := sk_le T q2
        have S2 : MS G bs (mh h y (sumG g F (ls ++ [l]))) y (sumG g F (ls ++ [l])) T e F := S.set rfl rfl rfl rfl
        have ks2 := kSkip (G := G) S2 q2
        rw [mK_mh, mK_mh] at ks2
        have ge : (upd (sumG g F (ls ++ [l])) 11 (nI (skF T e a2))) 10 = nI e := S.1.2.2.1
        refine r_goto rfl ?_
        refine r_iinc_3 rfl ?_
        rw [nI_1]
        refine r_aload_0 rfl ?_
        refine r_invvV rfl rfl am_set_at rfl rfl (by decide) ks2 ?_
        refine r_aload_0 rfl ?_
        refine r_getf rfl am_set_at rfl ?_
        refine r_push rfl ?_
        refine r_icneF rfl h12 ?_
        refine r_aload_0 rfl ?_
        refine r_getf rfl am_set_at rfl ?_
        refine r_aload_0 rfl ?_
        refine r_getf rfl am_set_at rfl ?_
        rw [upd_eq, ge]
        by_cases ce : skF T e a2 = e
        · rw [if_pos ce, ce]
          refine r_icneF rfl rfl ?_
          refine r_push rfl ?_
          refine r_istore_2 rfl ?_
          refine r_goto rfl ?_
          refine r_iload_2 rfl ?_
          refine r_ifeqT rfl rfl ?_
          refine r_iload_3 rfl ?_
          refine r_iret rfl ?_
          refine Or.inl ⟨_, rfl, by rw [List.length_append, List.length_singleton]; omega, ?_⟩
          rw [List.length_append, List.length_singleton, hl]
        · rw [if_neg ce]
          refine r_icneT rfl (fun z => ce ((nI_eq (by omega) (by omega)).mp z)) ?_
          refine r_aload_0 rfl ?_
          refine r_push rfl ?_
          have kg := kSign (G := G) S2 hs2 (c := 59)
          rw [mK_mh, mK_mh, sg_sk, sk_idem] at kg
          have es : sgF T e a2 59 = decide (T (skF T e a2) = 59) := by unfold sgF; rw [decide_eq_true (show skF T e a2 < e by omega), Bool.true_and]
          rw [es] at kg
          refine r_invvU rfl rfl am_set_at rfl rfl (by decide) kg ?_
          by_cases c59 : T (skF T e a2) = 59
          · rw [if_pos c59, decide_eq_true c59]
            refine r_ifeqF rfl (by decide) ?_
            refine r_aload_0 rfl ?_
            refine r_dupR rfl ?_
            refine r_getf rfl am_set_at rfl ?_
            rw [upd_eq]
            refine r_push rfl ?_
            refine r_iadd rfl ?_
            rw [nI_1]
            refine r_puti rfl am_set_at rfl ?_
            rw [mo_11, upd_upd, am_set_set]
            refine r_goto rfl ?_
            exact kRdL S h12 h13 n (k + 1) (skF T e a2 + 1) (ls ++ [l]) ⟨by omega, by omega⟩ (by rw [List.length_append, List.length_singleton, hl]) (by omega)
          · rw [if_neg c59, decide_eq_false c59]
            refine r_ifeqT rfl rfl ?_
            refine r_aload_0 rfl ?_
            refine r_aload_0 rfl ?_
            refine r_getf rfl am_set_at rfl ?_
            rw [upd_eq]
            refine r_invvV rfl rfl am_set_at rfl rfl (by decide) (kWrong (g := sumG g F (ls ++ [l])) h12) ?_
            refine r_goto rfl ?_
            exact kRdF hs2 he
      · have ell : llineF T e ls a = .inl z := by unfold llineF; rw [q1]; rfl
        rw [ell]
        show Wp G 31 mt_X6_read 73 _ _ (mh (mh h y (sumG g F ls)) y (gF (sumG g F ls) z (nI a9) dp)) (mRd h y e g F (.inl z))
        rw [mh_mh]
        refine r_goto rfl ?_
        refine r_iinc_3 rfl ?_
        refine r_aload_0 rfl ?_
        refine r_invvV rfl rfl am_set_at rfl rfl (by decide) (kSkipF S q9) ?_
        refine r_aload_0 rfl ?_
        refine r_getf rfl am_set_at rfl ?_
        refine r_push rfl ?_
        refine r_icneT rfl (by rw [gF_12]; exact nI_ne1 (by omega)) ?_
        refine r_push rfl ?_
        refine r_istore_2 rfl ?_
        refine r_goto rfl ?_
        exact kRdF q2 he
/-- the law is read -/
theorem kReadLaw (S : MS G bs h y g T e F) (h12 : g 12 = -1) (h13 : g 13 = 0) : Wc G 31 m_X6_read [.ref y, .int 1] (mK h y g 0) (mRd h y e g F (lawF T e)) := by
  have he := S.e400
  have hs := sk_le T (Nat.zero_le e)
  have ge : (upd g 11 (nI (skF T e 0))) 10 = nI e := S.1.2.2.1
  refine wc_in mt_X6_read rfl (L := [.ref y, .int 1, am_un, am_un]) rfl ?_
  refine r_aload_0 rfl ?_
  refine r_invvV rfl rfl am_set_at rfl rfl (by decide) (kSkip S (Nat.zero_le e)) ?_
  refine r_aload_0 rfl ?_
  refine r_getf rfl am_set_at rfl ?_
  refine r_aload_0 rfl ?_
  refine r_getf rfl am_set_at rfl ?_
  rw [upd_eq, ge]
  by_cases c0 : skF T e 0 = e
  · have el : lawF T e = .inr ([], e) := by unfold lawF linesF; rw [if_pos c0]
    rw [el, c0]
    refine r_icgeT rfl (Int32.le_refl _) ?_
    refine r_push rfl ?_
    refine r_istore_2 rfl ?_
    refine r_push rfl ?_
    refine r_istore_3 rfl ?_
    refine r_iload_2 rfl ?_
    refine r_ifeqT rfl rfl ?_
    refine r_iload_3 rfl ?_
    refine r_iret rfl ?_
    exact Or.inl ⟨[], rfl, Nat.zero_le _, by rw [sumG_nil]; rfl⟩
  · have el : lawF T e = lnL T e 12 (llineF T e) 13 0 [] (skF T e 0) := by unfold lawF linesF; rw [if_neg c0]
    rw [el]
    refine r_icgeF rfl (nI_lt (by omega) (by omega)) ?_
    refine r_push rfl ?_
    refine r_goto rfl ?_
    refine r_istore_2 rfl ?_
    refine r_push rfl ?_
    refine r_istore_3 rfl ?_
    have := kRdL S h12 h13 13 0 (skF T e 0) [] ⟨rfl, by decide⟩ rfl hs
    rw [sumG_nil] at this
    exact this
end
