/-! THE MODEL reads: parts and sums -/
set_option maxRecDepth 100000
theorem OG.same {G : am_G} {h h' : am_H} {bs : Nat} (q : OG G bs h) (g : ∀ a e, a < bs → h.1 a = some e → h'.1 a = some e) : OG G bs h' := by
  obtain ⟨q1, q2, ⟨a3, g3, q31, q32, q33⟩, q4, ⟨a5, f5, k5, q51, q52, q53, q54, q55⟩, ⟨a6, f6, q61, q62, q63, q64⟩⟩ := q
  have so : ∀ {v : Nat} {w : List Int32}, SO h bs v w → SO h' bs v w := fun q => by
    obtain ⟨a, f, hs, hz, q0, q1, q2, q3⟩ := q
    exact ⟨a, f, hs, hz, q0, g _ _ q0.1 q1, g _ _ q0.2 q2, q3⟩
  refine ⟨q1, fun x hx => ?_, ⟨a3, g3, q31, q32, g _ _ q32 q33⟩, q4, ⟨a5, f5, k5, q51, q52, g _ _ q52 q53, q54, fun k hk => ?_⟩, ⟨a6, f6, q61, q62, g _ _ q62 q63, fun k hk => ?_⟩⟩
  · obtain ⟨v, e1, e2⟩ := q2 x hx
    exact ⟨v, e1, so e2⟩
  · obtain ⟨e1, e2, e3, v, e4, e5⟩ := q55 k hk
    exact ⟨e1, e2, e3, v, g _ _ e3 e4, so e5⟩
  · obtain ⟨b, v, e1, e2, e3, e4⟩ := q64 k hk
    exact ⟨b, v, e1, e2, g _ _ e2 e3, so e4⟩
/-- the model at y reads T, its facts are F -/
def MS (G : am_G) (bs : Nat) (h : am_H) (y : Nat) (g T : Nat → Int32) (e : Nat) (F : Fc) : Prop := MP h y g T e ∧ (∃ fa : Nat → Int32, h.1 (y + 6) = some (.inl (0, 7, .inl fa)) ∧ ∀ k, k < 7 → fa k = F k) ∧ (g 15 = F 7 ∧ g 16 = F 8 ∧ Bz (F 7) ∧ Bz (F 8)) ∧ OG G bs h ∧ bs ≤ y
/-- the heap, the model reading on at a -/
abbrev mK (h : am_H) (y : Nat) (g : Nat → Int32) (a : Nat) : am_H := mh h y (upd g 11 (nI a))
theorem mK_mh {h : am_H} {y : Nat} {g g' : Nat → Int32} {a : Nat} : mK (mh h y g') y g a = mK h y g a := am_set_set
section
variable {T : Nat → Int32} {e y bs : Nat} {g g' : Nat → Int32} {h : am_H} {G : am_G} {F : Fc}
theorem MS.e400 (S : MS G bs h y g T e F) : e ≤ 400 := S.1.2.2.2
theorem MS.og (S : MS G bs h y g T e F) : OG G bs h := S.2.2.2.1
theorem MS.mp (S : MS G bs h y g T e F) (a : Nat) : MP (mK h y g a) y (upd g 11 (nI a)) T e := S.1.set rfl rfl
theorem MS.set (S : MS G bs h y g T e F) (h9 : g' 9 = g 9) (h10 : g' 10 = g 10) (h15 : g' 15 = g 15) (h16 : g' 16 = g 16) : MS G bs (mh h y g') y g' T e F := by
  obtain ⟨S1, ⟨fa, S2, S3⟩, ⟨S4, S5, S6⟩, S7, S8⟩ := S
  exact ⟨S1.set h9 h10, ⟨fa, am_set_k S2 (by omega), S3⟩, ⟨h15.trans S4, h16.trans S5, S6⟩, S7.same (fun a e z q => am_set_k q (by omega)), S8⟩
theorem kSkip (S : MS G bs h y g T e F) {a : Nat} (ha : a ≤ e) : Un G 1 m_X6_skip [.ref y] (mK h y g a) (mK h y g (skF T e a)) := by
  have := c_mSkip (G := G) (S.mp a) upd_eq ha
  rwa [mh_mh, upd_upd] at this
theorem kHere (S : MS G bs h y g T e F) {a : Nat} (ha : a ≤ e) : Uc G 2 m_X6_here [.ref y] (mK h y g a) (.int (nI (skF T e a))) (mK h y g (skF T e a)) := by
  have := c_mHere (G := G) (S.mp a) upd_eq ha
  rwa [mh_mh, upd_upd] at this
theorem kSign (S : MS G bs h y g T e F) {a : Nat} (ha : a ≤ e) {c : Int32} : Uc G 2 m_X6_isSign [.ref y, .int c] (mK h y g a) (.int (bI (sgF T e a c))) (mK h y g (skF T e a)) := by
  have := c_mIsSign (G := G) (S.mp a) upd_eq ha (c := c)
  rwa [mh_mh, upd_upd] at this
theorem kHas (S : MS G bs h y g T e F) {a : Nat} (ha : a ≤ e) (k : Nat) (w : List Int32) (hk : (k, w) ∈ gsL) : ∃ v, G k = .ref v ∧ Uc G 5 m_X6_has [.ref y, .ref v] (mK h y g a) (.int (bI (wdF T e a w))) (mK h y g (if wdF T e a w = true then wbF T e a else skF T e a)) := by
  obtain ⟨v, gv, sv⟩ := S.og.s k w hk
  have hv := sv.lt
  have hb := S.2.2.2.2
  refine ⟨v, gv, ?_⟩
  have := c_mHas (G := G) S.og.1.2 (S.mp a) upd_eq ha (sv.sa.mh S.1.1 (by omega)) (as_gs _ hk) (by omega)
  rwa [mh_mh, upd_upd] at this
theorem mQ_up {α : Type} {m : Nat} {B : Int32 → Prop} {res : RD α} {V : α → Int32} {R : am_O} {x : Int32} (q : mQm m B (mh h y (upd g 11 x)) y (upd g 11 x) e res V R) : mQm m B h y g e res V R := by
  rcases q with ⟨c, a', q1, q2, q3⟩ | ⟨z, a, d, v, q1, q2, q9, q3, q4⟩
  · exact Or.inl ⟨c, a', q1, q2, by rw [q3, mh_mh, upd_upd]⟩
  · exact Or.inr ⟨z, a, d, v, q1, q2, q9, q3, by rw [q4, mh_mh, gF_11]⟩
theorem kFig (S : MS G bs h y g T e F) {a : Nat} (ha : a ≤ e) (h12 : g 12 = -1) {lo hi : Int32} : Wc G 4 m_X6_figures [.ref y, .int lo, .int hi] (mK h y g a) (mQ Bi h y g e (numF T e lo hi a) id) :=
  wc_mono (fun R q => mQ_up q) (c_mFigures (G := G) (S.mp a) upd_eq ha h12)
theorem kWrong {z : Nat} {a : Nat} (h12 : g 12 = -1) : Un G 0 m_X6_wrong [.ref y, .int (nI z)] (mK h y g a) (mh h y (gF g z (nI a) (g 13))) := by
  have := c_mWrong (G := G) (h := mK h y g a) (y := y) (g := upd g 11 (nI a)) am_set_at h12 (nI z)
  rwa [mh_mh, gF_up] at this
theorem mK_id (o : h.1 y = some (mcell y g)) {a : Nat} (hg : g 11 = nI a) : mK h y g a = h := by
  show am_set h y (mcell y (upd g 11 (nI a))) = h
  rw [upd_id hg, am_set_id o]
theorem part_ge {a a' : Nat} {t : Sm} (q : partF T e a = .inr (t, a')) : a ≤ a' := by
  have hs := sk_ge T e a
  have hb := wb_ge T e a
  unfold partF at q
  split at q
  · cases en : numF T e 0 999 a with
    | inl z => rw [en] at q; cases q
    | inr z =>
      obtain ⟨v, k⟩ := z
      rw [en] at q
      cases q
      have := num_lt en
      omega
  · cases ef : factF T e a with
    | none => rw [ef] at q; cases q
    | some k => rw [ef] at q; cases q; omega
/-- a part -/
theorem kPart (S : MS G bs h y g T e F) {a : Nat} (ha : a ≤ e) (h12 : g 12 = -1) : Wc G 6 m_X6_part [.ref y] (mK h y g a) (mQ Bi h y g e (partF T e a) (fun tm => tm F)) := by
  have he := S.e400
  have hs := sk_le T ha
  have hb := wb_le T ha
  have ge : (upd g 11 (nI (skF T e a))) 10 = nI e := S.1.2.2.1
  obtain ⟨fa, of, hf⟩ := S.2.1
  have hno : factF T e a = none → isFgF T e a = false → Wp G 6 mt_X6_part 145 [.ref y, am_un] [.int (-1)] (mK h y g (skF T e a)) (mQ Bi h y g e (partF T e a) (fun tm => tm F)) := by
    intro z1 z2
    have ep : partF T e a = .inl (skF T e a) := by unfold partF; rw [if_neg (by rw [z2]; decide), z1]; rfl
    refine r_istore_1 rfl ?_
    refine r_iload_1 rfl ?_
    refine r_push rfl ?_
    refine r_icneF rfl rfl ?_
    refine r_aload_0 rfl ?_
    refine r_aload_0 rfl ?_
    refine r_getf rfl am_set_at rfl ?_
    rw [upd_eq]
    refine r_invvV rfl rfl am_set_at rfl rfl (by decide) (kWrong h12) ?_
    refine r_push rfl ?_
    refine r_iret rfl ?_
    exact Or.inr ⟨_, _, _, _, ep, hs, hs, trivial, rfl⟩
  have hyes : ∀ k, k < 7 → factF T e a = some k → isFgF T e a = false → Wp G 6 mt_X6_part 145 [.ref y, am_un] [.int (nI k)] (mK h y g (wbF T e a)) (mQ Bi h y g e (partF T e a) (fun tm => tm F)) := by
    intro k hk z1 z2
    have ep : partF T e a = .inr (fun F => F k, wbF T e a) := by unfold partF; rw [if_neg (by rw [z2]; decide), z1]; rfl
    refine r_istore_1 rfl ?_
    refine r_iload_1 rfl ?_
    refine r_push rfl ?_
    refine r_icneT rfl (nI_ne1 (by omega)) ?_
    refine r_aload_0 rfl ?_
    refine r_getf rfl am_set_at rfl ?_
    refine r_iload_1 rfl ?_
    refine r_iald rfl (am_set_k of (by omega)) rfl hk (by decide) ?_
    refine r_iret rfl ?_
    refine Or.inl ⟨_, _, ep, hb, ?_⟩
    rw [hf k hk]
  have chain : isFgF T e a = false → Wp G 6 mt_X6_part 52 [.ref y, am_un] [] (mK h y g (skF T e a)) (mQ Bi h y g e (partF T e a) (fun tm => tm F)) := by
    intro z2
    obtain ⟨v0, gv0, c0⟩ := kHas S hs 26 w_who (by decide)
    rw [wd_sk, wb_sk, sk_idem] at c0
    refine r_aload_0 rfl ?_
    refine r_globR rfl gv0 ?_
    refine r_invvU rfl rfl am_set_at rfl rfl (by decide) c0 ?_
    cases e0 : wdF T e a w_who with
    | true =>
      rw [if_pos rfl]
      refine r_ifeqF rfl (by decide) ?_
      refine r_push rfl ?_
      refine r_goto rfl ?_
      exact hyes 0 (by decide) (by unfold factF; rw [if_pos e0]) z2
    | false =>
    rw [if_neg (by decide)]
    refine r_ifeqT rfl rfl ?_
    obtain ⟨v1, gv1, c1⟩ := kHas S hs 27 w_load (by decide)
    rw [wd_sk, wb_sk, sk_idem] at c1
    refine r_aload_0 rfl ?_
    refine r_globR rfl gv1 ?_
    refine r_invvU rfl rfl am_set_at rfl rfl (by decide) c1 ?_
    cases e1 : wdF T e a w_load with
    | true =>
      rw [if_pos rfl]
      refine r_ifeqF rfl (by decide) ?_
      refine r_push rfl ?_
      refine r_goto rfl ?_
      exact hyes 1 (by decide) (by unfold factF; rw [if_neg (by rw [e0]; decide), if_pos e1]) z2
    | false =>
    rw [if_neg (by decide)]
    refine r_ifeqT rfl rfl ?_
    obtain ⟨v2, gv2, c2⟩ := kHas S hs 9 w_back (by decide)
    rw [wd_sk, wb_sk, sk_idem] at c2
    refine r_aload_0 rfl ?_
    refine r_globR rfl gv2 ?_
    refine r_invvU rfl rfl am_set_at rfl rfl (by decide) c2 ?_
    cases e2 : wdF T e a w_back with
    | true =>
      rw [if_pos rfl]
      refine r_ifeqF rfl (by decide) ?_
      refine r_push rfl ?_
      refine r_goto rfl ?_
      exact hyes 2 (by decide) (by unfold factF; rw [if_neg (by rw [e0]; decide), if_neg (by rw [e1]; decide), if_pos e2]) z2
    | false =>
    rw [if_neg (by decide)]
    refine r_ifeqT rfl rfl ?_
    obtain ⟨v3, gv3, c3⟩ := kHas S hs 28 w_place (by decide)
    rw [wd_sk, wb_sk, sk_idem] at c3
    refine r_aload_0 rfl ?_
    refine r_globR rfl gv3 ?_
    refine r_invvU rfl rfl am_set_at rfl rfl (by decide) c3 ?_
    cases e3 : wdF T e a w_place with
    | true =>
      rw [if_pos rfl]
      refine r_ifeqF rfl (by decide) ?_
      refine r_push rfl ?_
      refine r_goto rfl ?_
      exact hyes 3 (by decide) (by unfold factF; rw [if_neg (by rw [e0]; decide), if_neg (by rw [e1]; decide), if_neg (by rw [e2]; decide), if_pos e3]) z2
    | false =>
    rw [if_neg (by decide)]
    refine r_ifeqT rfl rfl ?_
    obtain ⟨v4, gv4, c4⟩ := kHas S hs 5 w_slope (by decide)
    rw [wd_sk, wb_sk, sk_idem] at c4
    refine r_aload_0 rfl ?_
    refine r_globR rfl gv4 ?_
    refine r_invvU rfl rfl am_set_at rfl rfl (by decide) c4 ?_
    cases e4 : wdF T e a w_slope with
    | true =>
      rw [if_pos rfl]
      refine r_ifeqF rfl (by decide) ?_
      refine r_push rfl ?_
      refine r_goto rfl ?_
      exact hyes 4 (by decide) (by unfold factF; rw [if_neg (by rw [e0]; decide), if_neg (by rw [e1]; decide), if_neg (by rw [e2]; decide), if_neg (by rw [e3]; decide), if_pos e4]) z2
    | false =>
    rw [if_neg (by decide)]
    refine r_ifeqT rfl rfl ?_
    obtain ⟨v5, gv5, c5⟩ := kHas S hs 29 w_tired (by decide)
    rw [wd_sk, wb_sk, sk_idem] at c5
    refine r_aload_0 rfl ?_
    refine r_globR rfl gv5 ?_
    refine r_invvU rfl rfl am_set_at rfl rfl (by decide) c5 ?_
    cases e5 : wdF T e a w_tired with
    | true =>
      rw [if_pos rfl]
      refine r_ifeqF rfl (by decide) ?_
      refine r_push rfl ?_
      refine r_goto rfl ?_
      exact hyes 5 (by decide) (by unfold factF; rw [if_neg (by rw [e0]; decide), if_neg (by rw [e1]; decide), if_neg (by rw [e2]; decide), if_neg (by rw [e3]; decide), if_neg (by rw [e4]; decide), if_pos e5]) z2
    | false =>
    rw [if_neg (by decide)]
    refine r_ifeqT rfl rfl ?_
    obtain ⟨v6, gv6, c6⟩ := kHas S hs 8 w_hour (by decide)
    rw [wd_sk, wb_sk, sk_idem] at c6
    refine r_aload_0 rfl ?_
    refine r_globR rfl gv6 ?_
    refine r_invvU rfl rfl am_set_at rfl rfl (by decide) c6 ?_
    cases e6 : wdF T e a w_hour with
    | true =>
      rw [if_pos rfl]
      refine r_ifeqF rfl (by decide) ?_
      refine r_push rfl ?_
      refine r_goto rfl ?_
      exact hyes 6 (by decide) (by unfold factF; rw [if_neg (by rw [e0]; decide), if_neg (by rw [e1]; decide), if_neg (by rw [e2]; decide), if_neg (by rw [e3]; decide), if_neg (by rw [e4]; decide), if_neg (by rw [e5]; decide), if_pos e6]) z2
    | false =>
    rw [if_neg (by decide)]
    refine r_ifeqT rfl rfl ?_
    refine r_push rfl ?_
    exact hno (by unfold factF; rw [if_neg (by rw [e0]; decide), if_neg (by rw [e1]; decide), if_neg (by rw [e2]; decide), if_neg (by rw [e3]; decide), if_neg (by rw [e4]; decide), if_neg (by rw [e5]; decide), if_neg (by rw [e6]; decide)]) z2
  refine wc_in mt_X6_part rfl (L := [.ref y, am_un]) rfl ?_
  refine r_aload_0 rfl ?_
  refine r_getf rfl am_set_at rfl ?_
  refine r_push rfl ?_
  refine r_iceqT rfl h12 ?_
  refine r_aload_0 rfl ?_
  refine r_invvV rfl rfl am_set_at rfl rfl (by decide) (kSkip S ha) ?_
  refine r_aload_0 rfl ?_
  refine r_getf rfl am_set_at rfl ?_
  refine r_aload_0 rfl ?_
  refine r_getf rfl am_set_at rfl ?_
  rw [upd_eq, ge]
  by_cases z : skF T e a < e
  · refine r_icgeF rfl (nI_lt z (by omega)) ?_
    refine r_aload_0 rfl ?_
    refine r_aload_0 rfl ?_
    refine r_getf rfl am_set_at rfl ?_
    rw [upd_eq]
    refine r_invvP_1 rfl am_set_at rfl rfl (by decide) (c_mLetter (S.mp _) (by omega)) ?_
    refine r_push rfl ?_
    refine r_push rfl ?_
    refine r_invP_3 rfl rfl (by decide) (c_isIn _ _ _) ?_
    cases ef : inF (T (skF T e a)) 48 57 with
    | false =>
      refine r_ifeqT rfl rfl ?_
      refine chain ?_
      unfold isFgF isFg
      rw [ef, Bool.and_false]
    | true =>
      have e1 : isFgF T e a = true := by unfold isFgF isFg; rw [ef, decide_eq_true z]; rfl
      have ep : partF T e a = rB (numF T e 0 999 a) fun v a => .inr (fun _ => v, a) := by unfold partF; rw [if_pos e1]
      refine r_ifeqF rfl (by decide) ?_
      refine r_aload_0 rfl ?_
      refine r_push rfl ?_
      refine r_push rfl ?_
      refine r_invvR rfl rfl am_set_at rfl rfl (by decide) (kFig S hs h12) ?_
      rw [num_sk]
      rintro R (⟨c, a', q1, q2, rfl⟩ | ⟨z, a9, dp, v, q1, q2, q9, q3, rfl⟩)
      · refine r_iret rfl ?_
        rw [ep, q1]
        exact Or.inl ⟨_, _, rfl, q2, rfl⟩
      · refine r_iret rfl ?_
        rw [ep, q1]
        exact Or.inr ⟨_, _, _, _, rfl, q2, q9, trivial, rfl⟩
  · refine r_icgeT rfl (nI_le (by omega) (by omega)) ?_
    refine chain ?_
    unfold isFgF
    rw [decide_eq_false z, Bool.false_and]
theorem kSumL (S : MS G bs h y g T e F) (h12 : g 12 = -1) : ∀ n a (s : Sm), e - a < n → a ≤ e → Wp G 7 mt_X6_sum 5 [.ref y, .int (s F)] [] (mK h y g a) (mQ Bi h y g e (suL T e n s a) (fun tm => tm F))
  | 0, _, _, hn, _ => absurd hn (by omega)
  | n + 1, a, s, hn, ha => by
    have he := S.e400
    have hs := sk_le T ha
    refine r_aload_0 rfl ?_
    refine r_getf rfl am_set_at rfl ?_
    refine r_push rfl ?_
    refine r_icneF rfl h12 ?_
    refine r_aload_0 rfl ?_
    refine r_push rfl ?_
    refine r_invvU rfl rfl am_set_at rfl rfl (by decide) (kSign S ha) ?_
    cases es : sgF T e a 43 with
    | false =>
      have e9 : suL T e (n + 1) s a = .inr (s, skF T e a) := by rw [suL, if_neg (by rw [es]; decide)]
      rw [e9]
      refine r_ifeqT rfl rfl ?_
      refine r_iload_1 rfl ?_
      refine r_iret rfl ?_
      exact Or.inl ⟨_, _, rfl, hs, rfl⟩
    | true =>
      have hlt : skF T e a < e := by
        unfold sgF at es
        simp only [Bool.and_eq_true, decide_eq_true_eq] at es
        exact es.1
      have hg := sk_ge T e a
      have e9 : suL T e (n + 1) s a = rB (partF T e (skF T e a + 1)) fun t a => suL T e n (fun F => s F + t F) a := by rw [suL, if_pos es]
      rw [e9]
      refine r_ifeqF rfl (by decide) ?_
      refine r_aload_0 rfl ?_
      refine r_dupR rfl ?_
      refine r_getf rfl am_set_at rfl ?_
      rw [upd_eq]
      refine r_push rfl ?_
      refine r_iadd rfl ?_
      rw [nI_1]
      refine r_puti rfl am_set_at rfl ?_
      rw [mo_11, upd_upd, am_set_set]
      refine r_iload_1 rfl ?_
      refine r_aload_0 rfl ?_
      refine r_invvR rfl rfl am_set_at rfl rfl (by decide) (kPart S (show skF T e a + 1 ≤ e by omega) h12) ?_
      rintro R (⟨t, a', q1, q2, rfl⟩ | ⟨z, a9, dp, v, q1, q2, q9, q3, rfl⟩)
      · refine r_iadd rfl ?_
        refine r_istore_1 rfl ?_
        refine r_goto rfl ?_
        rw [q1]
        have hp : skF T e a + 1 ≤ a' := part_ge q1
        exact kSumL S h12 n a' (fun F => s F + t F) (by omega) q2
      · rw [q1]
        refine r_iadd rfl ?_
        refine r_istore_1 rfl ?_
        refine r_goto rfl ?_
        refine r_aload_0 rfl ?_
        refine r_getf rfl am_set_at rfl ?_
        refine r_push rfl ?_
        refine r_icneT rfl (by rw [gF_12]; exact nI_ne1 (by omega)) ?_
        refine r_iload_1 rfl ?_
        refine r_iret rfl ?_
        exact Or.inr ⟨_, _, _, _, rfl, q2, q9, trivial, rfl⟩
theorem kSum (S : MS G bs h y g T e F) {a : Nat} (ha : a ≤ e) (h12 : g 12 = -1) : Wc G 7 m_X6_sum [.ref y] (mK h y g a) (mQ Bi h y g e (sumF T e a) (fun tm => tm F)) := by
  have he := S.e400
  refine wc_in mt_X6_sum rfl (L := [.ref y, am_un]) rfl ?_
  refine r_aload_0 rfl ?_
  refine r_invvR rfl rfl am_set_at rfl rfl (by decide) (kPart S ha h12) ?_
  rintro R (⟨t, a', q1, q2, rfl⟩ | ⟨z, a9, dp, v, q1, q2, q9, q3, rfl⟩)
  · refine r_istore_1 rfl ?_
    have e9 : sumF T e a = suL T e (e + 1) t a' := by unfold sumF; rw [q1]; rfl
    rw [e9]
    exact kSumL S h12 (e + 1) a' t (by omega) q2
  · have e9 : sumF T e a = .inl z := by unfold sumF; rw [q1]; rfl
    rw [e9]
    refine r_istore_1 rfl ?_
    refine r_aload_0 rfl ?_
    refine r_getf rfl am_set_at rfl ?_
    refine r_push rfl ?_
    refine r_icneT rfl (by rw [gF_12]; exact nI_ne1 (by omega)) ?_
    refine r_iload_1 rfl ?_
    refine r_iret rfl ?_
    exact Or.inr ⟨_, _, _, _, rfl, q2, q9, trivial, rfl⟩
end
