/-! THE VALLEY'S TEXT: the model reads what is wanted -/
set_option maxRecDepth 100000
section
variable {T : Nat → Int32} {e y bs : Nat} {g g' m : Nat → Int32} {h : am_H} {G : am_G} {F : Fc}
/-- the heap with another row -/
abbrev hr (h : am_H) (y : Nat) (r : Nat → Int32) : am_H := am_set h (y + 1) (.inl (0, 769, .inl r))
theorem MS.row (S : MS G bs h y g T e F) (h9 : g 9 = -1) (r : Nat → Int32) : MS G bs (hr h y r) y g T e F := by
  obtain ⟨⟨S1, ⟨mm, tp, S2, S3, S4⟩, S5, S6⟩, ⟨fa, S7, S8⟩, S9, S10, S11⟩ := S
  refine ⟨⟨am_set_k S1 (by omega), ⟨r, tp, am_set_at, am_set_k S3 (by omega), ?_⟩, S5, S6⟩, ⟨fa, am_set_k S7 (by omega), S8⟩, S9, S10.same (fun a e z q => am_set_k q (by omega)), S11⟩
  rcases S4 with z | z
  · exact Or.inl z
  · rw [h9] at z; exact absurd z.1 (by decide)
theorem kAfter (S : MS G bs h y g T e F) {a : Nat} (ha : a ≤ e) (h12 : g 12 = -1) {k v : Nat} {w : List Int32} (hk : (k, w) ∈ gsL) (gv : G k = .ref v) {lo hi : Int32} : Wc G 6 m_X6_after [.ref y, .ref v, .int lo, .int hi] (mK h y g a) (mQ Bi h y g e (afterF T e w lo hi a) id) := by
  have hs := sk_le T ha
  have hb := wb_le T ha
  obtain ⟨v', gv', has⟩ := kHas S ha k w hk
  rw [gv] at gv'
  cases gv'
  refine wc_in mt_X6_after rfl (L := [.ref y, .ref v, .int lo, .int hi]) rfl ?_
  cases c : wdF T e a w with
  | true =>
    rw [c, if_pos rfl] at has
    have ea : afterF T e w lo hi a = numF T e lo hi (wbF T e a) := by unfold afterF wantF; rw [if_pos c]; rfl
    refine r_aload_0 rfl ?_
    refine r_getf rfl (am_set_at) (by rfl) ?_
    refine r_push rfl ?_
    refine r_icneF rfl (h12) ?_
    refine r_aload_0 rfl ?_
    refine r_aload_1 rfl ?_
    refine r_invvU rfl rfl (am_set_at) rfl rfl (by decide) (has) ?_
    refine r_ifneT rfl (by decide) ?_
    refine r_aload_0 rfl ?_
    refine r_iload_2 rfl ?_
    refine r_iload_3 rfl ?_
    refine r_invvR rfl rfl am_set_at rfl rfl (by decide) (kFig S hb h12) ?_
    rintro R (⟨n, a', q1, q2, rfl⟩ | ⟨z, a9, dp, u, q1, q2, q9, q3, rfl⟩)
    · show Wp G 6 mt_X6_after 30 _ _ _ _
      refine r_iret rfl ?_
      exact Or.inl ⟨n, a', ea.trans q1, q2, rfl⟩
    · show Wp G 6 mt_X6_after 30 _ _ _ _
      refine r_iret rfl ?_
      exact Or.inr ⟨z, a9, dp, u, ea.trans q1, q2, q9, q3, rfl⟩
  | false =>
    rw [c, if_neg (by decide)] at has
    have ea : afterF T e w lo hi a = .inl (skF T e a) := by unfold afterF wantF; rw [if_neg (by rw [c]; decide)]; rfl
    have he := S.e400
    refine r_aload_0 rfl ?_
    refine r_getf rfl (am_set_at) (by rfl) ?_
    refine r_push rfl ?_
    refine r_icneF rfl (h12) ?_
    refine r_aload_0 rfl ?_
    refine r_aload_1 rfl ?_
    refine r_invvU rfl rfl (am_set_at) rfl rfl (by decide) (has) ?_
    refine r_ifneF rfl (rfl) ?_
    refine r_aload_0 rfl ?_
    refine r_aload_0 rfl ?_
    refine r_getf rfl (am_set_at) (by rfl) ?_
    rw [upd_eq]
    refine r_invvV rfl rfl (am_set_at) rfl rfl (by decide) (kWrong h12) ?_
    refine r_aload_0 rfl ?_
    refine r_iload_2 rfl ?_
    refine r_iload_3 rfl ?_
    refine r_invvP_2 rfl (am_set_at) rfl rfl (by decide) (c_mFiguresX am_set_at (by rw [gF_12]; exact nI_ne1 (by omega))) ?_
    refine r_iret rfl ?_
    exact Or.inr ⟨_, skF T e a, _, 0, ea, hs, hs, trivial, rfl⟩
theorem kAfterX (o : h.1 y = some (mcell y g)) (h12 : g 12 ≠ -1) {v : Nat} {lo hi : Int32} : Vc G 6 m_X6_after [.ref y, .ref v, .int lo, .int hi] h (.int 0) := by
  refine wc_in mt_X6_after rfl (L := [.ref y, .ref v, .int lo, .int hi]) rfl ?_
  refine r_aload_0 rfl ?_
  refine r_getf rfl (o) (by rfl) ?_
  refine r_push rfl ?_
  refine r_icneT rfl (h12) ?_
  refine r_aload_0 rfl ?_
  refine r_iload_2 rfl ?_
  refine r_iload_3 rfl ?_
  refine r_invvP_2 rfl (o) rfl rfl (by decide) (c_mFiguresX o h12) ?_
  refine r_iret rfl ?_
  rfl
theorem MS.gX (S : MS G bs h y g T e F) {z : Nat} {at_ dp : Int32} : MS G bs (mh h y (gF g z at_ dp)) y (gF g z at_ dp) T e F := S.set rfl rfl rfl rfl
theorem kHereX (S : MS G bs h y g T e F) {z a9 : Nat} (ha : a9 ≤ e) {dp : Int32} : Uc G 2 m_X6_here [.ref y] (mh h y (gF g z (nI a9) dp)) (.int (nI (skF T e a9))) (mh h y (gF g z (nI (skF T e a9)) dp)) := by
  have S9 : MS G bs (mh h y (gF g z (nI a9) dp)) y (gF g z (nI a9) dp) T e F := S.gX
  have kz := kHere (G := G) S9 ha
  rw [mK_mh, mK_mh] at kz
  rw [show mK h y (gF g z (nI a9) dp) a9 = mh h y (gF g z (nI a9) dp) by show mh h y (upd _ 11 _) = _; rw [gF_u11]] at kz
  rw [show mK h y (gF g z (nI a9) dp) (skF T e a9) = mh h y (gF g z (nI (skF T e a9)) dp) by show mh h y (upd _ 11 _) = _; rw [gF_u11]] at kz
  exact kz
theorem kSkipX (S : MS G bs h y g T e F) {z a9 : Nat} (ha : a9 ≤ e) {dp : Int32} : Un G 1 m_X6_skip [.ref y] (mh h y (gF g z (nI a9) dp)) (mh h y (gF g z (nI (skF T e a9)) dp)) := by
  have S9 : MS G bs (mh h y (gF g z (nI a9) dp)) y (gF g z (nI a9) dp) T e F := S.gX
  have kz := kSkip (G := G) S9 ha
  rw [mK_mh, mK_mh] at kz
  rw [show mK h y (gF g z (nI a9) dp) a9 = mh h y (gF g z (nI a9) dp) by show mh h y (upd _ 11 _) = _; rw [gF_u11]] at kz
  rw [show mK h y (gF g z (nI a9) dp) (skF T e a9) = mh h y (gF g z (nI (skF T e a9)) dp) by show mh h y (upd _ 11 _) = _; rw [gF_u11]] at kz
  exact kz
theorem kOther (S : MS G bs h y g T e F) (om : h.1 (y + 1) = some (.inl (0, 769, .inl m))) {a : Nat} (ha : a ≤ e) (h12 : g 12 = -1) {k v : Nat} {w : List Int32} (hk : (k, w) ∈ gsL) (gv : G k = .ref v) {one : Int32} : Wc G 6 m_X6_otherAfter [.ref y, .ref v, .int one] (mK h y g a) (mQ Bi h y g e (otherF T e m w one a) id) := by
  have hs := sk_le T ha
  have hb := wb_le T ha
  have hbs := sk_le T hb
  have he := S.e400
  obtain ⟨v', gv', has⟩ := kHas S ha k w hk
  rw [gv] at gv'
  cases gv'
  have o1 : ∀ {g'}, (mh h y g').1 (y + 1) = some (.inl (0, 769, .inl m)) := am_set_k om (by omega)
  refine wc_in mt_X6_otherAfter rfl (L := [.ref y, .ref v, .int one, am_un, am_un]) rfl ?_
  cases c : wdF T e a w with
  | true =>
    rw [c, if_pos rfl] at has
    have ea : otherF T e m w one a = rB (numF T e 0 (m 3 - 1) (wbF T e a)) fun x a' => if x = one then .inl (skF T e (wbF T e a)) else .inr (x, a') := by unfold otherF wantF; rw [if_pos c]; rfl
    refine r_aload_0 rfl ?_
    refine r_getf rfl (am_set_at) (by rfl) ?_
    refine r_push rfl ?_
    refine r_icneF rfl (h12) ?_
    refine r_aload_0 rfl ?_
    refine r_aload_1 rfl ?_
    refine r_invvU rfl rfl (am_set_at) rfl rfl (by decide) (has) ?_
    refine r_ifneT rfl (by decide) ?_
    refine r_aload_0 rfl ?_
    refine r_invvU rfl rfl (am_set_at) rfl rfl (by decide) (kHere S hb) ?_
    refine r_istore_3 rfl ?_
    refine r_aload_0 rfl ?_
    refine r_push rfl ?_
    refine r_aload_0 rfl ?_
    refine r_getf rfl (am_set_at) (by rfl) ?_
    refine r_push rfl ?_
    refine r_iald rfl (o1) (show (3 : Int32) = nI 3 from rfl) (by first | assumption | omega) (by first | decide | omega) ?_
    refine r_push rfl ?_
    refine r_isub rfl ?_
    refine r_invvR rfl rfl am_set_at rfl rfl (by decide) (kFig S hbs h12) ?_
    rw [num_sk]
    rintro R (⟨n, a', q1, q2, rfl⟩ | ⟨z, a9, dp, u, q1, q2, q9, q3, rfl⟩)
    · rw [q1] at ea
      show Wp G 6 mt_X6_otherAfter 42 _ [.int n] (mK h y g a') _
      by_cases d : n = one
      · have ea2 : otherF T e m w one a = .inl (skF T e (wbF T e a)) := by rw [ea]; exact if_pos d
        refine r_istore_4 rfl ?_
        refine r_aload_0 rfl ?_
        refine r_getf rfl (am_set_at) (by rfl) ?_
        refine r_push rfl ?_
        refine r_icneF rfl (h12) ?_
        refine r_iload_4 rfl ?_
        refine r_iload_2 rfl ?_
        refine r_icneF rfl (d) ?_
        refine r_aload_0 rfl ?_
        refine r_iload_3 rfl ?_
        refine r_invvV rfl rfl (am_set_at) rfl rfl (by decide) (kWrong h12) ?_
        refine r_iload_4 rfl ?_
        refine r_iret rfl ?_
        exact Or.inr ⟨_, a', _, _, ea2, hbs, q2, trivial, rfl⟩
      · have ea2 : otherF T e m w one a = .inr (n, a') := by rw [ea]; exact if_neg d
        refine r_istore_4 rfl ?_
        refine r_aload_0 rfl ?_
        refine r_getf rfl (am_set_at) (by rfl) ?_
        refine r_push rfl ?_
        refine r_icneF rfl (h12) ?_
        refine r_iload_4 rfl ?_
        refine r_iload_2 rfl ?_
        refine r_icneT rfl (d) ?_
        refine r_iload_4 rfl ?_
        refine r_iret rfl ?_
        exact Or.inl ⟨n, a', ea2, q2, rfl⟩
    · rw [q1] at ea
      show Wp G 6 mt_X6_otherAfter 42 _ [.int u] (mh h y (gF g z (nI a9) dp)) _
      refine r_istore_4 rfl ?_
      refine r_aload_0 rfl ?_
      refine r_getf rfl (am_set_at) (by rfl) ?_
      refine r_push rfl ?_
      refine r_icneT rfl (by rw [gF_12]; exact nI_ne1 (by omega)) ?_
      refine r_iload_4 rfl ?_
      refine r_iret rfl ?_
      exact Or.inr ⟨z, a9, dp, u, ea, q2, q9, trivial, rfl⟩
  | false =>
    rw [c, if_neg (by decide)] at has
    have ea : otherF T e m w one a = .inl (skF T e a) := by unfold otherF wantF; rw [if_neg (by rw [c]; decide)]; rfl
    refine r_aload_0 rfl ?_
    refine r_getf rfl (am_set_at) (by rfl) ?_
    refine r_push rfl ?_
    refine r_icneF rfl (h12) ?_
    refine r_aload_0 rfl ?_
    refine r_aload_1 rfl ?_
    refine r_invvU rfl rfl (am_set_at) rfl rfl (by decide) (has) ?_
    refine r_ifneF rfl (rfl) ?_
    refine r_aload_0 rfl ?_
    refine r_aload_0 rfl ?_
    refine r_getf rfl (am_set_at) (by rfl) ?_
    rw [upd_eq]
    refine r_invvV rfl rfl (am_set_at) rfl rfl (by decide) (kWrong h12) ?_
    refine r_aload_0 rfl ?_
    refine r_invvU rfl rfl (am_set_at) rfl rfl (by decide) (kHereX S hs) ?_
    refine r_istore_3 rfl ?_
    refine r_aload_0 rfl ?_
    refine r_push rfl ?_
    refine r_aload_0 rfl ?_
    refine r_getf rfl (am_set_at) (by rfl) ?_
    refine r_push rfl ?_
    refine r_iald rfl (o1) (show (3 : Int32) = nI 3 from rfl) (by first | assumption | omega) (by first | decide | omega) ?_
    refine r_push rfl ?_
    refine r_isub rfl ?_
    refine r_invvP_2 rfl (am_set_at) rfl rfl (by decide) (c_mFiguresX am_set_at (by rw [gF_12]; exact nI_ne1 (by omega))) ?_
    refine r_istore_4 rfl ?_
    refine r_aload_0 rfl ?_
    refine r_getf rfl (am_set_at) (by rfl) ?_
    refine r_push rfl ?_
    refine r_icneT rfl (by rw [gF_12]; exact nI_ne1 (by omega)) ?_
    refine r_iload_4 rfl ?_
    refine r_iret rfl ?_
    exact Or.inr ⟨_, skF T e (skF T e a), _, 0, ea, hs, sk_le T hs, trivial, rfl⟩
theorem kOtherX (S : MS G bs h y g T e F) (om : h.1 (y + 1) = some (.inl (0, 769, .inl m))) {z a9 : Nat} (hz : z ≤ e) (ha : a9 ≤ e) {dp : Int32} {v : Nat} {one : Int32} : Uc G 6 m_X6_otherAfter [.ref y, .ref v, .int one] (mh h y (gF g z (nI a9) dp)) (.int 0) (mh h y (gF g z (nI (skF T e a9)) dp)) := by
  have he := S.e400
  have o1 : ∀ {g'}, (mh h y g').1 (y + 1) = some (.inl (0, 769, .inl m)) := am_set_k om (by omega)
  refine wc_in mt_X6_otherAfter rfl (L := [.ref y, .ref v, .int one, am_un, am_un]) rfl ?_
  refine r_aload_0 rfl ?_
  refine r_getf rfl (am_set_at) (by rfl) ?_
  refine r_push rfl ?_
  refine r_icneT rfl (by rw [gF_12]; exact nI_ne1 (by omega)) ?_
  refine r_aload_0 rfl ?_
  refine r_invvU rfl rfl (am_set_at) rfl rfl (by decide) (kHereX S ha) ?_
  refine r_istore_3 rfl ?_
  refine r_aload_0 rfl ?_
  refine r_push rfl ?_
  refine r_aload_0 rfl ?_
  refine r_getf rfl (am_set_at) (by rfl) ?_
  refine r_push rfl ?_
  refine r_iald rfl (o1) (show (3 : Int32) = nI 3 from rfl) (by first | assumption | omega) (by first | decide | omega) ?_
  refine r_push rfl ?_
  refine r_isub rfl ?_
  refine r_invvP_2 rfl (am_set_at) rfl rfl (by decide) (c_mFiguresX am_set_at (by rw [gF_12]; exact nI_ne1 (by omega))) ?_
  refine r_istore_4 rfl ?_
  refine r_aload_0 rfl ?_
  refine r_getf rfl (am_set_at) (by rfl) ?_
  refine r_push rfl ?_
  refine r_icneT rfl (by rw [gF_12]; exact nI_ne1 (by omega)) ?_
  refine r_iload_4 rfl ?_
  refine r_iret rfl ?_
  rfl
end
