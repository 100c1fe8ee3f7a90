/-! THE LAW'S LOOP: its cases -/
set_option maxRecDepth 100000
theorem lg_self (x : Int64) : lg_cmp x x = 0 := by
  unfold lg_cmp
  simp
section
variable {G : am_G} {bs x s n j : Nat} {h : am_H} {a : AA} {f : Nat → Int32} {Q : am_O → Prop} {X5 X6 : Value}
theorem c_thr {g : Nat → Int32} {y : Nat} {c : Int32} (o : h.1 y = some (mcell y g)) (e : g 0 = c) : Vc G 0 m_X6_thrown [.ref y] h (.int c) := by
  rw [← e]
  refine wc_in mt_X6_thrown rfl (L := [.ref y]) rfl ?_
  refine r_aload_0 rfl ?_
  refine r_getf rfl (by assumption) (by rfl) ?_
  refine r_iret rfl ?_
  rfl
theorem st_o (st : STA G bs x h a) : h.1 x = some (.inr (0, xobj x a.hi)) := by
  obtain ⟨S, g, lf, gx, ⟨b, l, K, -⟩, -⟩ := st
  exact K.2.2.2.2.2.2.1
abbrev LL (x s j : Nat) (X5 X6 : Value) : List Value := [.ref s, .ref x, .ref (x + 87), .ref (x + 97), .int (nI (6 * j)), X5, X6]
abbrev LK (G : am_G) (bs x s j : Nat) (h : am_H) (a : AA) (Q : am_O → Prop) : Prop := ∀ h2 X5 X6, FIN G bs x h a h2 → Wp G 60 mt_L_law 2646 (LL x s j X5 X6) [] h2 Q
theorem k_feed (hs : h.1 s = some (.inl (100, n, .inl f))) (hsb : s < bs) (hj : 6 * j + 6 ≤ n) (hn : n ≤ 384) (st : STA G bs x h a) (kont : LK G bs x s j h a Q) : Wp G 60 mt_L_law 240 (LL x s j X5 X6) [] h Q := by
  have hn2 : n < 2 ^ 31 := by omega
  have ox := st_o st
  refine r_aload_1 rfl ?_
  refine r_aload_0 rfl ?_
  refine r_iload_4 rfl ?_
  refine r_push rfl ?_
  refine r_iadd rfl ?_
  refine r_ialdO rfl (hs) (show nI (6 * j) + (1 : Int32) = nI (6 * j + 1) from nI_add _ 1) (show 6 * j + 1 < n by omega) (hn2) ?_
  refine r_aload_0 rfl ?_
  refine r_iload_4 rfl ?_
  refine r_push rfl ?_
  refine r_iadd rfl ?_
  refine r_ialdO rfl (hs) (show nI (6 * j) + (2 : Int32) = nI (6 * j + 2) from nI_add _ 2) (show 6 * j + 2 < n by omega) (hn2) ?_
  refine r_aload_0 rfl ?_
  refine r_iload_4 rfl ?_
  refine r_push rfl ?_
  refine r_iadd rfl ?_
  refine r_ialdO rfl (hs) (show nI (6 * j) + (3 : Int32) = nI (6 * j + 3) from nI_add _ 3) (show 6 * j + 3 < n by omega) (hn2) ?_
  refine r_aload_0 rfl ?_
  refine r_iload_4 rfl ?_
  refine r_push rfl ?_
  refine r_iadd rfl ?_
  refine r_ialdO rfl (hs) (show nI (6 * j) + (4 : Int32) = nI (6 * j + 4) from nI_add _ 4) (show 6 * j + 4 < n by omega) (hn2) ?_
  refine r_aload_0 rfl ?_
  refine r_iload_4 rfl ?_
  refine r_push rfl ?_
  refine r_iadd rfl ?_
  refine r_ialdO rfl (hs) (show nI (6 * j) + (5 : Int32) = nI (6 * j + 5) from nI_add _ 5) (show 6 * j + 5 < n by omega) (hn2) ?_
  skip
  obtain ⟨w, E1⟩ := o_feed st (f (6 * j + 1)) (f (6 * j + 2)) (f (6 * j + 3)) (f (6 * j + 4)) (f (6 * j + 5))
  refine r_invvE rfl rfl ox rfl rfl (by decide) E1 ?_
  rintro v1 h1 ⟨rfl, ⟨⟨gg, cy⟩, old⟩, E2⟩
  have hs1 := old _ _ hsb hs
  refine r_aload_2 rfl ?_
  refine r_aload_0 rfl ?_
  refine r_iload_4 rfl ?_
  refine r_push rfl ?_
  refine r_iadd rfl ?_
  refine r_ialdO rfl (hs1) (show nI (6 * j) + (1 : Int32) = nI (6 * j + 1) from nI_add _ 1) (show 6 * j + 1 < n by omega) (hn2) ?_
  refine r_aload_0 rfl ?_
  refine r_iload_4 rfl ?_
  refine r_push rfl ?_
  refine r_iadd rfl ?_
  refine r_ialdO rfl (hs1) (show nI (6 * j) + (2 : Int32) = nI (6 * j + 2) from nI_add _ 2) (show 6 * j + 2 < n by omega) (hn2) ?_
  refine r_aload_0 rfl ?_
  refine r_iload_4 rfl ?_
  refine r_push rfl ?_
  refine r_iadd rfl ?_
  refine r_ialdO rfl (hs1) (show nI (6 * j) + (3 : Int32) = nI (6 * j + 3) from nI_add _ 3) (show 6 * j + 3 < n by omega) (hn2) ?_
  refine r_aload_0 rfl ?_
  refine r_iload_4 rfl ?_
  refine r_push rfl ?_
  refine r_iadd rfl ?_
  refine r_ialdO rfl (hs1) (show nI (6 * j) + (4 : Int32) = nI (6 * j + 4) from nI_add _ 4) (show 6 * j + 4 < n by omega) (hn2) ?_
  refine r_aload_0 rfl ?_
  refine r_iload_4 rfl ?_
  refine r_push rfl ?_
  refine r_iadd rfl ?_
  refine r_ialdO rfl (hs1) (show nI (6 * j) + (5 : Int32) = nI (6 * j + 5) from nI_add _ 5) (show 6 * j + 5 < n by omega) (hn2) ?_
  skip
  refine r_invvE rfl rfl cy rfl rfl (by decide) E2 ?_
  rintro v2 h2 ⟨rfl, fin⟩
  refine r_iceqT rfl (rfl) ?_
  exact kont _ _ _ fin
theorem k_end (hs : h.1 s = some (.inl (100, n, .inl f))) (hsb : s < bs) (hj : 6 * j + 6 ≤ n) (hn : n ≤ 384) (st : STA G bs x h a) (kont : LK G bs x s j h a Q) : Wp G 60 mt_L_law 313 (LL x s j X5 X6) [] h Q := by
  have hn2 : n < 2 ^ 31 := by omega
  have ox := st_o st
  refine r_aload_1 rfl ?_
  refine r_aload_0 rfl ?_
  refine r_iload_4 rfl ?_
  refine r_push rfl ?_
  refine r_iadd rfl ?_
  refine r_ialdO rfl (hs) (show nI (6 * j) + (1 : Int32) = nI (6 * j + 1) from nI_add _ 1) (show 6 * j + 1 < n by omega) (hn2) ?_
  skip
  obtain ⟨w, E1⟩ := o_end st (f (6 * j + 1))
  refine r_invvE rfl rfl ox rfl rfl (by decide) E1 ?_
  rintro v1 h1 ⟨rfl, ⟨⟨gg, cy⟩, old⟩, E2⟩
  have hs1 := old _ _ hsb hs
  refine r_aload_2 rfl ?_
  refine r_aload_0 rfl ?_
  refine r_iload_4 rfl ?_
  refine r_push rfl ?_
  refine r_iadd rfl ?_
  refine r_ialdO rfl (hs1) (show nI (6 * j) + (1 : Int32) = nI (6 * j + 1) from nI_add _ 1) (show 6 * j + 1 < n by omega) (hn2) ?_
  skip
  refine r_invvE rfl rfl cy rfl rfl (by decide) E2 ?_
  rintro v2 h2 ⟨rfl, fin⟩
  refine r_iceqT rfl (rfl) ?_
  exact kont _ _ _ fin
theorem k_valley (hs : h.1 s = some (.inl (100, n, .inl f))) (hsb : s < bs) (hj : 6 * j + 6 ≤ n) (hn : n ≤ 384) (st : STA G bs x h a) (kont : LK G bs x s j h a Q) : Wp G 60 mt_L_law 338 (LL x s j X5 X6) [] h Q := by
  have hn2 : n < 2 ^ 31 := by omega
  refine r_aload_1 rfl ?_
  refine r_aload_3 rfl ?_
  skip
  refine r_invE rfl rfl rfl (by decide) (o_valley st ) ?_
  rintro v1 h1 ⟨code, rfl, ⟨⟨gg, cy⟩, old⟩, ⟨lf1, o1⟩, E2⟩
  have hs1 := old _ _ hsb hs
  refine r_istore_5 rfl ?_
  refine r_aload_2 rfl ?_
  skip
  refine r_invvE rfl rfl cy rfl rfl (by decide) E2 ?_
  rintro v2 h2 ⟨w, rfl, fin, ⟨lf, o2, e2⟩, g2, y2, e3⟩
  have tn := c_thr (G := G) y2 e3
  by_cases c0 : code = 0
  · refine r_istore_6 rfl ?_
    refine r_aload_2 rfl ?_
    refine r_invvP_0 rfl (y2) rfl rfl (by decide) (tn) ?_
    refine r_iload_5 rfl ?_
    refine r_iceqT rfl (rfl) ?_
    refine r_iload_5 rfl ?_
    refine r_ifneF rfl (c0) ?_
    refine r_aload_3 rfl ?_
    refine r_push rfl ?_
    refine r_lald rfl (o2) (rfl) (show 0 < 1 by decide) (by first | decide | omega) ?_
    refine r_iload_6 rfl ?_
    refine r_i2l rfl ?_
    refine r_lcmp rfl ?_
    refine r_ifeqT rfl (by rw [e2 c0]; exact lg_self _) ?_
    refine r_goto rfl ?_
    exact kont _ _ _ fin
  · refine r_istore_6 rfl ?_
    refine r_aload_2 rfl ?_
    refine r_invvP_0 rfl (y2) rfl rfl (by decide) (tn) ?_
    refine r_iload_5 rfl ?_
    refine r_iceqT rfl (rfl) ?_
    refine r_iload_5 rfl ?_
    refine r_ifneT rfl (c0) ?_
    refine r_goto rfl ?_
    exact kont _ _ _ fin
theorem k_law (hs : h.1 s = some (.inl (100, n, .inl f))) (hsb : s < bs) (hj : 6 * j + 6 ≤ n) (hn : n ≤ 384) (st : STA G bs x h a) (kont : LK G bs x s j h a Q) : Wp G 60 mt_L_law 382 (LL x s j X5 X6) [] h Q := by
  have hn2 : n < 2 ^ 31 := by omega
  refine r_aload_1 rfl ?_
  refine r_aload_3 rfl ?_
  skip
  refine r_invE rfl rfl rfl (by decide) (o_law st ) ?_
  rintro v1 h1 ⟨code, rfl, ⟨⟨gg, cy⟩, old⟩, ⟨lf1, o1⟩, E2⟩
  have hs1 := old _ _ hsb hs
  refine r_istore_5 rfl ?_
  refine r_aload_2 rfl ?_
  skip
  refine r_invvE rfl rfl cy rfl rfl (by decide) E2 ?_
  rintro v2 h2 ⟨w, rfl, fin, ⟨lf, o2, e2⟩, g2, y2, e3⟩
  have tn := c_thr (G := G) y2 e3
  by_cases c0 : code = 0
  · refine r_istore_6 rfl ?_
    refine r_aload_2 rfl ?_
    refine r_invvP_0 rfl (y2) rfl rfl (by decide) (tn) ?_
    refine r_iload_5 rfl ?_
    refine r_iceqT rfl (rfl) ?_
    refine r_iload_5 rfl ?_
    refine r_ifneF rfl (c0) ?_
    refine r_aload_3 rfl ?_
    refine r_push rfl ?_
    refine r_lald rfl (o2) (rfl) (show 0 < 1 by decide) (by first | decide | omega) ?_
    refine r_iload_6 rfl ?_
    refine r_i2l rfl ?_
    refine r_lcmp rfl ?_
    refine r_ifeqT rfl (by rw [e2 c0]; exact lg_self _) ?_
    refine r_goto rfl ?_
    exact kont _ _ _ fin
  · refine r_istore_6 rfl ?_
    refine r_aload_2 rfl ?_
    refine r_invvP_0 rfl (y2) rfl rfl (by decide) (tn) ?_
    refine r_iload_5 rfl ?_
    refine r_iceqT rfl (rfl) ?_
    refine r_iload_5 rfl ?_
    refine r_ifneT rfl (c0) ?_
    refine r_goto rfl ?_
    exact kont _ _ _ fin
theorem k_fault (hs : h.1 s = some (.inl (100, n, .inl f))) (hsb : s < bs) (hj : 6 * j + 6 ≤ n) (hn : n ≤ 384) (st : STA G bs x h a) (kont : LK G bs x s j h a Q) : Wp G 60 mt_L_law 426 (LL x s j X5 X6) [] h Q := by
  have hn2 : n < 2 ^ 31 := by omega
  have ox := st_o st
  refine r_aload_1 rfl ?_
  skip
  obtain ⟨w, E1⟩ := o_fault st 
  refine r_invvE rfl rfl ox rfl rfl (by decide) E1 ?_
  rintro v1 h1 ⟨rfl, ⟨⟨gg, cy⟩, old⟩, E2⟩
  have hs1 := old _ _ hsb hs
  refine r_aload_2 rfl ?_
  skip
  refine r_invvE rfl rfl cy rfl rfl (by decide) E2 ?_
  rintro v2 h2 ⟨rfl, fin⟩
  refine r_iceqT rfl (rfl) ?_
  exact kont _ _ _ fin
theorem k_person (hs : h.1 s = some (.inl (100, n, .inl f))) (hsb : s < bs) (hj : 6 * j + 6 ≤ n) (hn : n ≤ 384) (st : STA G bs x h a) (kont : LK G bs x s j h a Q) : Wp G 60 mt_L_law 439 (LL x s j X5 X6) [] h Q := by
  have hn2 : n < 2 ^ 31 := by omega
  refine r_aload_1 rfl ?_
  refine r_aload_0 rfl ?_
  refine r_iload_4 rfl ?_
  refine r_push rfl ?_
  refine r_iadd rfl ?_
  refine r_ialdO rfl (hs) (show nI (6 * j) + (1 : Int32) = nI (6 * j + 1) from nI_add _ 1) (show 6 * j + 1 < n by omega) (hn2) ?_
  refine r_aload_0 rfl ?_
  refine r_iload_4 rfl ?_
  refine r_push rfl ?_
  refine r_iadd rfl ?_
  refine r_ialdO rfl (hs) (show nI (6 * j) + (2 : Int32) = nI (6 * j + 2) from nI_add _ 2) (show 6 * j + 2 < n by omega) (hn2) ?_
  refine r_aload_3 rfl ?_
  skip
  refine r_invE rfl rfl rfl (by decide) (o_person st (f (6 * j + 1)) (f (6 * j + 2))) ?_
  rintro v1 h1 ⟨code, rfl, ⟨⟨gg, cy⟩, old⟩, ⟨lf1, o1⟩, E2⟩
  have hs1 := old _ _ hsb hs
  refine r_istore_5 rfl ?_
  refine r_aload_2 rfl ?_
  refine r_aload_0 rfl ?_
  refine r_iload_4 rfl ?_
  refine r_push rfl ?_
  refine r_iadd rfl ?_
  refine r_ialdO rfl (hs1) (show nI (6 * j) + (1 : Int32) = nI (6 * j + 1) from nI_add _ 1) (show 6 * j + 1 < n by omega) (hn2) ?_
  refine r_aload_0 rfl ?_
  refine r_iload_4 rfl ?_
  refine r_push rfl ?_
  refine r_iadd rfl ?_
  refine r_ialdO rfl (hs1) (show nI (6 * j) + (2 : Int32) = nI (6 * j + 2) from nI_add _ 2) (show 6 * j + 2 < n by omega) (hn2) ?_
  skip
  refine r_invvE rfl rfl cy rfl rfl (by decide) E2 ?_
  rintro v2 h2 ⟨w, rfl, fin, ⟨lf, o2, e2⟩, g2, y2, e3⟩
  have tn := c_thr (G := G) y2 e3
  by_cases c0 : code = 0
  · refine r_istore_6 rfl ?_
    refine r_aload_2 rfl ?_
    refine r_invvP_0 rfl (y2) rfl rfl (by decide) (tn) ?_
    refine r_iload_5 rfl ?_
    refine r_iceqT rfl (rfl) ?_
    refine r_iload_5 rfl ?_
    refine r_ifneF rfl (c0) ?_
    refine r_aload_3 rfl ?_
    refine r_push rfl ?_
    refine r_lald rfl (o2) (rfl) (show 0 < 1 by decide) (by first | decide | omega) ?_
    refine r_iload_6 rfl ?_
    refine r_i2l rfl ?_
    refine r_lcmp rfl ?_
    refine r_ifeqT rfl (by rw [e2 c0]; exact lg_self _) ?_
    refine r_goto rfl ?_
    exact kont _ _ _ fin
  · refine r_istore_6 rfl ?_
    refine r_aload_2 rfl ?_
    refine r_invvP_0 rfl (y2) rfl rfl (by decide) (tn) ?_
    refine r_iload_5 rfl ?_
    refine r_iceqT rfl (rfl) ?_
    refine r_iload_5 rfl ?_
    refine r_ifneT rfl (c0) ?_
    refine r_goto rfl ?_
    exact kont _ _ _ fin
theorem k_does (hs : h.1 s = some (.inl (100, n, .inl f))) (hsb : s < bs) (hj : 6 * j + 6 ≤ n) (hn : n ≤ 384) (st : STA G bs x h a) (kont : LK G bs x s j h a Q) : Wp G 60 mt_L_law 507 (LL x s j X5 X6) [] h Q := by
  have hn2 : n < 2 ^ 31 := by omega
  refine r_aload_1 rfl ?_
  refine r_aload_0 rfl ?_
  refine r_iload_4 rfl ?_
  refine r_push rfl ?_
  refine r_iadd rfl ?_
  refine r_ialdO rfl (hs) (show nI (6 * j) + (1 : Int32) = nI (6 * j + 1) from nI_add _ 1) (show 6 * j + 1 < n by omega) (hn2) ?_
  refine r_aload_0 rfl ?_
  refine r_iload_4 rfl ?_
  refine r_push rfl ?_
  refine r_iadd rfl ?_
  refine r_ialdO rfl (hs) (show nI (6 * j) + (2 : Int32) = nI (6 * j + 2) from nI_add _ 2) (show 6 * j + 2 < n by omega) (hn2) ?_
  refine r_aload_3 rfl ?_
  skip
  refine r_invE rfl rfl rfl (by decide) (o_does st (f (6 * j + 1)) (f (6 * j + 2))) ?_
  rintro v1 h1 ⟨code, rfl, ⟨⟨gg, cy⟩, old⟩, ⟨lf1, o1⟩, E2⟩
  have hs1 := old _ _ hsb hs
  refine r_istore_5 rfl ?_
  refine r_aload_2 rfl ?_
  refine r_aload_0 rfl ?_
  refine r_iload_4 rfl ?_
  refine r_push rfl ?_
  refine r_iadd rfl ?_
  refine r_ialdO rfl (hs1) (show nI (6 * j) + (1 : Int32) = nI (6 * j + 1) from nI_add _ 1) (show 6 * j + 1 < n by omega) (hn2) ?_
  refine r_aload_0 rfl ?_
  refine r_iload_4 rfl ?_
  refine r_push rfl ?_
  refine r_iadd rfl ?_
  refine r_ialdO rfl (hs1) (show nI (6 * j) + (2 : Int32) = nI (6 * j + 2) from nI_add _ 2) (show 6 * j + 2 < n by omega) (hn2) ?_
  skip
  refine r_invvE rfl rfl cy rfl rfl (by decide) E2 ?_
  rintro v2 h2 ⟨w, rfl, fin, ⟨lf, o2, e2⟩, g2, y2, e3⟩
  have tn := c_thr (G := G) y2 e3
  by_cases c0 : code = 0
  · refine r_istore_6 rfl ?_
    refine r_aload_2 rfl ?_
    refine r_invvP_0 rfl (y2) rfl rfl (by decide) (tn) ?_
    refine r_iload_5 rfl ?_
    refine r_iceqT rfl (rfl) ?_
    refine r_iload_5 rfl ?_
    refine r_ifneF rfl (c0) ?_
    refine r_aload_3 rfl ?_
    refine r_push rfl ?_
    refine r_lald rfl (o2) (rfl) (show 0 < 1 by decide) (by first | decide | omega) ?_
    refine r_iload_6 rfl ?_
    refine r_i2l rfl ?_
    refine r_lcmp rfl ?_
    refine r_ifeqT rfl (by rw [e2 c0]; exact lg_self _) ?_
    refine r_goto rfl ?_
    exact kont _ _ _ fin
  · refine r_istore_6 rfl ?_
    refine r_aload_2 rfl ?_
    refine r_invvP_0 rfl (y2) rfl rfl (by decide) (tn) ?_
    refine r_iload_5 rfl ?_
    refine r_iceqT rfl (rfl) ?_
    refine r_iload_5 rfl ?_
    refine r_ifneT rfl (c0) ?_
    refine r_goto rfl ?_
    exact kont _ _ _ fin
theorem k_stone (hs : h.1 s = some (.inl (100, n, .inl f))) (hsb : s < bs) (hj : 6 * j + 6 ≤ n) (hn : n ≤ 384) (st : STA G bs x h a) (kont : LK G bs x s j h a Q) : Wp G 60 mt_L_law 575 (LL x s j X5 X6) [] h Q := by
  have hn2 : n < 2 ^ 31 := by omega
  refine r_aload_1 rfl ?_
  refine r_aload_0 rfl ?_
  refine r_iload_4 rfl ?_
  refine r_push rfl ?_
  refine r_iadd rfl ?_
  refine r_ialdO rfl (hs) (show nI (6 * j) + (1 : Int32) = nI (6 * j + 1) from nI_add _ 1) (show 6 * j + 1 < n by omega) (hn2) ?_
  refine r_aload_0 rfl ?_
  refine r_iload_4 rfl ?_
  refine r_push rfl ?_
  refine r_iadd rfl ?_
  refine r_ialdO rfl (hs) (show nI (6 * j) + (2 : Int32) = nI (6 * j + 2) from nI_add _ 2) (show 6 * j + 2 < n by omega) (hn2) ?_
  refine r_aload_3 rfl ?_
  skip
  refine r_invE rfl rfl rfl (by decide) (o_stone st (f (6 * j + 1)) (f (6 * j + 2))) ?_
  rintro v1 h1 ⟨code, rfl, ⟨⟨gg, cy⟩, old⟩, ⟨lf1, o1⟩, E2⟩
  have hs1 := old _ _ hsb hs
  refine r_istore_5 rfl ?_
  refine r_aload_2 rfl ?_
  refine r_aload_0 rfl ?_
  refine r_iload_4 rfl ?_
  refine r_push rfl ?_
  refine r_iadd rfl ?_
  refine r_ialdO rfl (hs1) (show nI (6 * j) + (1 : Int32) = nI (6 * j + 1) from nI_add _ 1) (show 6 * j + 1 < n by omega) (hn2) ?_
  refine r_aload_0 rfl ?_
  refine r_iload_4 rfl ?_
  refine r_push rfl ?_
  refine r_iadd rfl ?_
  refine r_ialdO rfl (hs1) (show nI (6 * j) + (2 : Int32) = nI (6 * j + 2) from nI_add _ 2) (show 6 * j + 2 < n by omega) (hn2) ?_
  skip
  refine r_invvE rfl rfl cy rfl rfl (by decide) E2 ?_
  rintro v2 h2 ⟨w, rfl, fin, ⟨lf, o2, e2⟩, g2, y2, e3⟩
  have tn := c_thr (G := G) y2 e3
  by_cases c0 : code = 0
  · refine r_istore_6 rfl ?_
    refine r_aload_2 rfl ?_
    refine r_invvP_0 rfl (y2) rfl rfl (by decide) (tn) ?_
    refine r_iload_5 rfl ?_
    refine r_iceqT rfl (rfl) ?_
    refine r_iload_5 rfl ?_
    refine r_ifneF rfl (c0) ?_
    refine r_aload_3 rfl ?_
    refine r_push rfl ?_
    refine r_lald rfl (o2) (rfl) (show 0 < 1 by decide) (by first | decide | omega) ?_
    refine r_iload_6 rfl ?_
    refine r_i2l rfl ?_
    refine r_lcmp rfl ?_
    refine r_ifeqT rfl (by rw [e2 c0]; exact lg_self _) ?_
    refine r_goto rfl ?_
    exact kont _ _ _ fin
  · refine r_istore_6 rfl ?_
    refine r_aload_2 rfl ?_
    refine r_invvP_0 rfl (y2) rfl rfl (by decide) (tn) ?_
    refine r_iload_5 rfl ?_
    refine r_iceqT rfl (rfl) ?_
    refine r_iload_5 rfl ?_
    refine r_ifneT rfl (c0) ?_
    refine r_goto rfl ?_
    exact kont _ _ _ fin
theorem k_place (hs : h.1 s = some (.inl (100, n, .inl f))) (hsb : s < bs) (hj : 6 * j + 6 ≤ n) (hn : n ≤ 384) (st : STA G bs x h a) (kont : LK G bs x s j h a Q) : Wp G 60 mt_L_law 643 (LL x s j X5 X6) [] h Q := by
  have hn2 : n < 2 ^ 31 := by omega
  refine r_aload_1 rfl ?_
  refine r_aload_0 rfl ?_
  refine r_iload_4 rfl ?_
  refine r_push rfl ?_
  refine r_iadd rfl ?_
  refine r_ialdO rfl (hs) (show nI (6 * j) + (1 : Int32) = nI (6 * j + 1) from nI_add _ 1) (show 6 * j + 1 < n by omega) (hn2) ?_
  refine r_aload_0 rfl ?_
  refine r_iload_4 rfl ?_
  refine r_push rfl ?_
  refine r_iadd rfl ?_
  refine r_ialdO rfl (hs) (show nI (6 * j) + (2 : Int32) = nI (6 * j + 2) from nI_add _ 2) (show 6 * j + 2 < n by omega) (hn2) ?_
  refine r_aload_3 rfl ?_
  skip
  refine r_invE rfl rfl rfl (by decide) (o_place st (f (6 * j + 1)) (f (6 * j + 2))) ?_
  rintro v1 h1 ⟨code, rfl, ⟨⟨gg, cy⟩, old⟩, ⟨lf1, o1⟩, E2⟩
  have hs1 := old _ _ hsb hs
  refine r_istore_5 rfl ?_
  refine r_aload_2 rfl ?_
  refine r_aload_0 rfl ?_
  refine r_iload_4 rfl ?_
  refine r_push rfl ?_
  refine r_iadd rfl ?_
  refine r_ialdO rfl (hs1) (show nI (6 * j) + (1 : Int32) = nI (6 * j + 1) from nI_add _ 1) (show 6 * j + 1 < n by omega) (hn2) ?_
  refine r_aload_0 rfl ?_
  refine r_iload_4 rfl ?_
  refine r_push rfl ?_
  refine r_iadd rfl ?_
  refine r_ialdO rfl (hs1) (show nI (6 * j) + (2 : Int32) = nI (6 * j + 2) from nI_add _ 2) (show 6 * j + 2 < n by omega) (hn2) ?_
  skip
  refine r_invvE rfl rfl cy rfl rfl (by decide) E2 ?_
  rintro v2 h2 ⟨w, rfl, fin, ⟨lf, o2, e2⟩, g2, y2, e3⟩
  have tn := c_thr (G := G) y2 e3
  by_cases c0 : code = 0
  · refine r_istore_6 rfl ?_
    refine r_aload_2 rfl ?_
    refine r_invvP_0 rfl (y2) rfl rfl (by decide) (tn) ?_
    refine r_iload_5 rfl ?_
    refine r_iceqT rfl (rfl) ?_
    refine r_iload_5 rfl ?_
    refine r_ifneF rfl (c0) ?_
    refine r_aload_3 rfl ?_
    refine r_push rfl ?_
    refine r_lald rfl (o2) (rfl) (show 0 < 1 by decide) (by first | decide | omega) ?_
    refine r_iload_6 rfl ?_
    refine r_i2l rfl ?_
    refine r_lcmp rfl ?_
    refine r_ifeqT rfl (by rw [e2 c0]; exact lg_self _) ?_
    refine r_goto rfl ?_
    exact kont _ _ _ fin
  · refine r_istore_6 rfl ?_
    refine r_aload_2 rfl ?_
    refine r_invvP_0 rfl (y2) rfl rfl (by decide) (tn) ?_
    refine r_iload_5 rfl ?_
    refine r_iceqT rfl (rfl) ?_
    refine r_iload_5 rfl ?_
    refine r_ifneT rfl (c0) ?_
    refine r_goto rfl ?_
    exact kont _ _ _ fin
theorem k_lend (hs : h.1 s = some (.inl (100, n, .inl f))) (hsb : s < bs) (hj : 6 * j + 6 ≤ n) (hn : n ≤ 384) (st : STA G bs x h a) (kont : LK G bs x s j h a Q) : Wp G 60 mt_L_law 711 (LL x s j X5 X6) [] h Q := by
  have hn2 : n < 2 ^ 31 := by omega
  refine r_aload_1 rfl ?_
  refine r_aload_0 rfl ?_
  refine r_iload_4 rfl ?_
  refine r_push rfl ?_
  refine r_iadd rfl ?_
  refine r_ialdO rfl (hs) (show nI (6 * j) + (1 : Int32) = nI (6 * j + 1) from nI_add _ 1) (show 6 * j + 1 < n by omega) (hn2) ?_
  refine r_aload_0 rfl ?_
  refine r_iload_4 rfl ?_
  refine r_push rfl ?_
  refine r_iadd rfl ?_
  refine r_ialdO rfl (hs) (show nI (6 * j) + (2 : Int32) = nI (6 * j + 2) from nI_add _ 2) (show 6 * j + 2 < n by omega) (hn2) ?_
  refine r_aload_0 rfl ?_
  refine r_iload_4 rfl ?_
  refine r_push rfl ?_
  refine r_iadd rfl ?_
  refine r_ialdO rfl (hs) (show nI (6 * j) + (3 : Int32) = nI (6 * j + 3) from nI_add _ 3) (show 6 * j + 3 < n by omega) (hn2) ?_
  refine r_aload_3 rfl ?_
  skip
  refine r_invE rfl rfl rfl (by decide) (o_lend st (f (6 * j + 1)) (f (6 * j + 2)) (f (6 * j + 3))) ?_
  rintro v1 h1 ⟨code, rfl, ⟨⟨gg, cy⟩, old⟩, ⟨lf1, o1⟩, E2⟩
  have hs1 := old _ _ hsb hs
  refine r_istore_5 rfl ?_
  refine r_aload_2 rfl ?_
  refine r_aload_0 rfl ?_
  refine r_iload_4 rfl ?_
  refine r_push rfl ?_
  refine r_iadd rfl ?_
  refine r_ialdO rfl (hs1) (show nI (6 * j) + (1 : Int32) = nI (6 * j + 1) from nI_add _ 1) (show 6 * j + 1 < n by omega) (hn2) ?_
  refine r_aload_0 rfl ?_
  refine r_iload_4 rfl ?_
  refine r_push rfl ?_
  refine r_iadd rfl ?_
  refine r_ialdO rfl (hs1) (show nI (6 * j) + (2 : Int32) = nI (6 * j + 2) from nI_add _ 2) (show 6 * j + 2 < n by omega) (hn2) ?_
  refine r_aload_0 rfl ?_
  refine r_iload_4 rfl ?_
  refine r_push rfl ?_
  refine r_iadd rfl ?_
  refine r_ialdO rfl (hs1) (show nI (6 * j) + (3 : Int32) = nI (6 * j + 3) from nI_add _ 3) (show 6 * j + 3 < n by omega) (hn2) ?_
  skip
  refine r_invvE rfl rfl cy rfl rfl (by decide) E2 ?_
  rintro v2 h2 ⟨w, rfl, fin, ⟨lf, o2, e2⟩, g2, y2, e3⟩
  have tn := c_thr (G := G) y2 e3
  by_cases c0 : code = 0
  · refine r_istore_6 rfl ?_
    refine r_aload_2 rfl ?_
    refine r_invvP_0 rfl (y2) rfl rfl (by decide) (tn) ?_
    refine r_iload_5 rfl ?_
    refine r_iceqT rfl (rfl) ?_
    refine r_iload_5 rfl ?_
    refine r_ifneF rfl (c0) ?_
    refine r_aload_3 rfl ?_
    refine r_push rfl ?_
    refine r_lald rfl (o2) (rfl) (show 0 < 1 by decide) (by first | decide | omega) ?_
    refine r_iload_6 rfl ?_
    refine r_i2l rfl ?_
    refine r_lcmp rfl ?_
    refine r_ifeqT rfl (by rw [e2 c0]; exact lg_self _) ?_
    refine r_goto rfl ?_
    exact kont _ _ _ fin
  · refine r_istore_6 rfl ?_
    refine r_aload_2 rfl ?_
    refine r_invvP_0 rfl (y2) rfl rfl (by decide) (tn) ?_
    refine r_iload_5 rfl ?_
    refine r_iceqT rfl (rfl) ?_
    refine r_iload_5 rfl ?_
    refine r_ifneT rfl (c0) ?_
    refine r_goto rfl ?_
    exact kont _ _ _ fin
theorem k_pay (hs : h.1 s = some (.inl (100, n, .inl f))) (hsb : s < bs) (hj : 6 * j + 6 ≤ n) (hn : n ≤ 384) (st : STA G bs x h a) (kont : LK G bs x s j h a Q) : Wp G 60 mt_L_law 791 (LL x s j X5 X6) [] h Q := by
  have hn2 : n < 2 ^ 31 := by omega
  refine r_aload_1 rfl ?_
  refine r_aload_0 rfl ?_
  refine r_iload_4 rfl ?_
  refine r_push rfl ?_
  refine r_iadd rfl ?_
  refine r_ialdO rfl (hs) (show nI (6 * j) + (1 : Int32) = nI (6 * j + 1) from nI_add _ 1) (show 6 * j + 1 < n by omega) (hn2) ?_
  refine r_aload_3 rfl ?_
  skip
  refine r_invE rfl rfl rfl (by decide) (o_pay st (f (6 * j + 1))) ?_
  rintro v1 h1 ⟨code, rfl, ⟨⟨gg, cy⟩, old⟩, ⟨lf1, o1⟩, E2⟩
  have hs1 := old _ _ hsb hs
  refine r_istore_5 rfl ?_
  refine r_aload_2 rfl ?_
  refine r_aload_0 rfl ?_
  refine r_iload_4 rfl ?_
  refine r_push rfl ?_
  refine r_iadd rfl ?_
  refine r_ialdO rfl (hs1) (show nI (6 * j) + (1 : Int32) = nI (6 * j + 1) from nI_add _ 1) (show 6 * j + 1 < n by omega) (hn2) ?_
  skip
  refine r_invvE rfl rfl cy rfl rfl (by decide) E2 ?_
  rintro v2 h2 ⟨w, rfl, fin, ⟨lf, o2, e2⟩, g2, y2, e3⟩
  have tn := c_thr (G := G) y2 e3
  by_cases c0 : code = 0
  · refine r_istore_6 rfl ?_
    refine r_aload_2 rfl ?_
    refine r_invvP_0 rfl (y2) rfl rfl (by decide) (tn) ?_
    refine r_iload_5 rfl ?_
    refine r_iceqT rfl (rfl) ?_
    refine r_iload_5 rfl ?_
    refine r_ifneF rfl (c0) ?_
    refine r_aload_3 rfl ?_
    refine r_push rfl ?_
    refine r_lald rfl (o2) (rfl) (show 0 < 1 by decide) (by first | decide | omega) ?_
    refine r_iload_6 rfl ?_
    refine r_i2l rfl ?_
    refine r_lcmp rfl ?_
    refine r_ifeqT rfl (by rw [e2 c0]; exact lg_self _) ?_
    refine r_goto rfl ?_
    exact kont _ _ _ fin
  · refine r_istore_6 rfl ?_
    refine r_aload_2 rfl ?_
    refine r_invvP_0 rfl (y2) rfl rfl (by decide) (tn) ?_
    refine r_iload_5 rfl ?_
    refine r_iceqT rfl (rfl) ?_
    refine r_iload_5 rfl ?_
    refine r_ifneT rfl (c0) ?_
    refine r_goto rfl ?_
    exact kont _ _ _ fin
theorem k_split (hs : h.1 s = some (.inl (100, n, .inl f))) (hsb : s < bs) (hj : 6 * j + 6 ≤ n) (hn : n ≤ 384) (st : STA G bs x h a) (kont : LK G bs x s j h a Q) : Wp G 60 mt_L_law 847 (LL x s j X5 X6) [] h Q := by
  have hn2 : n < 2 ^ 31 := by omega
  refine r_aload_1 rfl ?_
  refine r_aload_0 rfl ?_
  refine r_iload_4 rfl ?_
  refine r_push rfl ?_
  refine r_iadd rfl ?_
  refine r_ialdO rfl (hs) (show nI (6 * j) + (1 : Int32) = nI (6 * j + 1) from nI_add _ 1) (show 6 * j + 1 < n by omega) (hn2) ?_
  refine r_aload_3 rfl ?_
  skip
  refine r_invE rfl rfl rfl (by decide) (o_split st (f (6 * j + 1))) ?_
  rintro v1 h1 ⟨code, rfl, ⟨⟨gg, cy⟩, old⟩, ⟨lf1, o1⟩, E2⟩
  have hs1 := old _ _ hsb hs
  refine r_istore_5 rfl ?_
  refine r_aload_2 rfl ?_
  refine r_aload_0 rfl ?_
  refine r_iload_4 rfl ?_
  refine r_push rfl ?_
  refine r_iadd rfl ?_
  refine r_ialdO rfl (hs1) (show nI (6 * j) + (1 : Int32) = nI (6 * j + 1) from nI_add _ 1) (show 6 * j + 1 < n by omega) (hn2) ?_
  skip
  refine r_invvE rfl rfl cy rfl rfl (by decide) E2 ?_
  rintro v2 h2 ⟨w, rfl, fin, ⟨lf, o2, e2⟩, g2, y2, e3⟩
  have tn := c_thr (G := G) y2 e3
  by_cases c0 : code = 0
  · refine r_istore_6 rfl ?_
    refine r_aload_2 rfl ?_
    refine r_invvP_0 rfl (y2) rfl rfl (by decide) (tn) ?_
    refine r_iload_5 rfl ?_
    refine r_iceqT rfl (rfl) ?_
    refine r_iload_5 rfl ?_
    refine r_ifneF rfl (c0) ?_
    refine r_aload_3 rfl ?_
    refine r_push rfl ?_
    refine r_lald rfl (o2) (rfl) (show 0 < 1 by decide) (by first | decide | omega) ?_
    refine r_iload_6 rfl ?_
    refine r_i2l rfl ?_
    refine r_lcmp rfl ?_
    refine r_ifeqT rfl (by rw [e2 c0]; exact lg_self _) ?_
    refine r_goto rfl ?_
    exact kont _ _ _ fin
  · refine r_istore_6 rfl ?_
    refine r_aload_2 rfl ?_
    refine r_invvP_0 rfl (y2) rfl rfl (by decide) (tn) ?_
    refine r_iload_5 rfl ?_
    refine r_iceqT rfl (rfl) ?_
    refine r_iload_5 rfl ?_
    refine r_ifneT rfl (c0) ?_
    refine r_goto rfl ?_
    exact kont _ _ _ fin
theorem k_pass (hs : h.1 s = some (.inl (100, n, .inl f))) (hsb : s < bs) (hj : 6 * j + 6 ≤ n) (hn : n ≤ 384) (st : STA G bs x h a) (kont : LK G bs x s j h a Q) : Wp G 60 mt_L_law 903 (LL x s j X5 X6) [] h Q := by
  have hn2 : n < 2 ^ 31 := by omega
  refine r_aload_1 rfl ?_
  refine r_aload_0 rfl ?_
  refine r_iload_4 rfl ?_
  refine r_push rfl ?_
  refine r_iadd rfl ?_
  refine r_ialdO rfl (hs) (show nI (6 * j) + (1 : Int32) = nI (6 * j + 1) from nI_add _ 1) (show 6 * j + 1 < n by omega) (hn2) ?_
  refine r_aload_0 rfl ?_
  refine r_iload_4 rfl ?_
  refine r_push rfl ?_
  refine r_iadd rfl ?_
  refine r_ialdO rfl (hs) (show nI (6 * j) + (2 : Int32) = nI (6 * j + 2) from nI_add _ 2) (show 6 * j + 2 < n by omega) (hn2) ?_
  refine r_aload_3 rfl ?_
  skip
  refine r_invE rfl rfl rfl (by decide) (o_pass st (f (6 * j + 1)) (f (6 * j + 2))) ?_
  rintro v1 h1 ⟨code, rfl, ⟨⟨gg, cy⟩, old⟩, ⟨lf1, o1⟩, E2⟩
  have hs1 := old _ _ hsb hs
  refine r_istore_5 rfl ?_
  refine r_aload_2 rfl ?_
  refine r_aload_0 rfl ?_
  refine r_iload_4 rfl ?_
  refine r_push rfl ?_
  refine r_iadd rfl ?_
  refine r_ialdO rfl (hs1) (show nI (6 * j) + (1 : Int32) = nI (6 * j + 1) from nI_add _ 1) (show 6 * j + 1 < n by omega) (hn2) ?_
  refine r_aload_0 rfl ?_
  refine r_iload_4 rfl ?_
  refine r_push rfl ?_
  refine r_iadd rfl ?_
  refine r_ialdO rfl (hs1) (show nI (6 * j) + (2 : Int32) = nI (6 * j + 2) from nI_add _ 2) (show 6 * j + 2 < n by omega) (hn2) ?_
  skip
  refine r_invvE rfl rfl cy rfl rfl (by decide) E2 ?_
  rintro v2 h2 ⟨w, rfl, fin, ⟨lf, o2, e2⟩, g2, y2, e3⟩
  have tn := c_thr (G := G) y2 e3
  by_cases c0 : code = 0
  · refine r_istore_6 rfl ?_
    refine r_aload_2 rfl ?_
    refine r_invvP_0 rfl (y2) rfl rfl (by decide) (tn) ?_
    refine r_iload_5 rfl ?_
    refine r_iceqT rfl (rfl) ?_
    refine r_iload_5 rfl ?_
    refine r_ifneF rfl (c0) ?_
    refine r_aload_3 rfl ?_
    refine r_push rfl ?_
    refine r_lald rfl (o2) (rfl) (show 0 < 1 by decide) (by first | decide | omega) ?_
    refine r_iload_6 rfl ?_
    refine r_i2l rfl ?_
    refine r_lcmp rfl ?_
    refine r_ifeqT rfl (by rw [e2 c0]; exact lg_self _) ?_
    refine r_goto rfl ?_
    exact kont _ _ _ fin
  · refine r_istore_6 rfl ?_
    refine r_aload_2 rfl ?_
    refine r_invvP_0 rfl (y2) rfl rfl (by decide) (tn) ?_
    refine r_iload_5 rfl ?_
    refine r_iceqT rfl (rfl) ?_
    refine r_iload_5 rfl ?_
    refine r_ifneT rfl (c0) ?_
    refine r_goto rfl ?_
    exact kont _ _ _ fin
theorem k_lay (hs : h.1 s = some (.inl (100, n, .inl f))) (hsb : s < bs) (hj : 6 * j + 6 ≤ n) (hn : n ≤ 384) (st : STA G bs x h a) (kont : LK G bs x s j h a Q) : Wp G 60 mt_L_law 971 (LL x s j X5 X6) [] h Q := by
  have hn2 : n < 2 ^ 31 := by omega
  refine r_aload_1 rfl ?_
  refine r_aload_0 rfl ?_
  refine r_iload_4 rfl ?_
  refine r_push rfl ?_
  refine r_iadd rfl ?_
  refine r_ialdO rfl (hs) (show nI (6 * j) + (1 : Int32) = nI (6 * j + 1) from nI_add _ 1) (show 6 * j + 1 < n by omega) (hn2) ?_
  refine r_aload_3 rfl ?_
  skip
  refine r_invE rfl rfl rfl (by decide) (o_lay st (f (6 * j + 1))) ?_
  rintro v1 h1 ⟨code, rfl, ⟨⟨gg, cy⟩, old⟩, ⟨lf1, o1⟩, E2⟩
  have hs1 := old _ _ hsb hs
  refine r_istore_5 rfl ?_
  refine r_aload_2 rfl ?_
  refine r_aload_0 rfl ?_
  refine r_iload_4 rfl ?_
  refine r_push rfl ?_
  refine r_iadd rfl ?_
  refine r_ialdO rfl (hs1) (show nI (6 * j) + (1 : Int32) = nI (6 * j + 1) from nI_add _ 1) (show 6 * j + 1 < n by omega) (hn2) ?_
  skip
  refine r_invvE rfl rfl cy rfl rfl (by decide) E2 ?_
  rintro v2 h2 ⟨w, rfl, fin, ⟨lf, o2, e2⟩, g2, y2, e3⟩
  have tn := c_thr (G := G) y2 e3
  by_cases c0 : code = 0
  · refine r_istore_6 rfl ?_
    refine r_aload_2 rfl ?_
    refine r_invvP_0 rfl (y2) rfl rfl (by decide) (tn) ?_
    refine r_iload_5 rfl ?_
    refine r_iceqT rfl (rfl) ?_
    refine r_iload_5 rfl ?_
    refine r_ifneF rfl (c0) ?_
    refine r_aload_3 rfl ?_
    refine r_push rfl ?_
    refine r_lald rfl (o2) (rfl) (show 0 < 1 by decide) (by first | decide | omega) ?_
    refine r_iload_6 rfl ?_
    refine r_i2l rfl ?_
    refine r_lcmp rfl ?_
    refine r_ifeqT rfl (by rw [e2 c0]; exact lg_self _) ?_
    refine r_goto rfl ?_
    exact kont _ _ _ fin
  · refine r_istore_6 rfl ?_
    refine r_aload_2 rfl ?_
    refine r_invvP_0 rfl (y2) rfl rfl (by decide) (tn) ?_
    refine r_iload_5 rfl ?_
    refine r_iceqT rfl (rfl) ?_
    refine r_iload_5 rfl ?_
    refine r_ifneT rfl (c0) ?_
    refine r_goto rfl ?_
    exact kont _ _ _ fin
theorem k_lift (hs : h.1 s = some (.inl (100, n, .inl f))) (hsb : s < bs) (hj : 6 * j + 6 ≤ n) (hn : n ≤ 384) (st : STA G bs x h a) (kont : LK G bs x s j h a Q) : Wp G 60 mt_L_law 1027 (LL x s j X5 X6) [] h Q := by
  have hn2 : n < 2 ^ 31 := by omega
  refine r_aload_1 rfl ?_
  refine r_aload_0 rfl ?_
  refine r_iload_4 rfl ?_
  refine r_push rfl ?_
  refine r_iadd rfl ?_
  refine r_ialdO rfl (hs) (show nI (6 * j) + (1 : Int32) = nI (6 * j + 1) from nI_add _ 1) (show 6 * j + 1 < n by omega) (hn2) ?_
  refine r_aload_0 rfl ?_
  refine r_iload_4 rfl ?_
  refine r_push rfl ?_
  refine r_iadd rfl ?_
  refine r_ialdO rfl (hs) (show nI (6 * j) + (2 : Int32) = nI (6 * j + 2) from nI_add _ 2) (show 6 * j + 2 < n by omega) (hn2) ?_
  refine r_aload_3 rfl ?_
  skip
  refine r_invE rfl rfl rfl (by decide) (o_lift st (f (6 * j + 1)) (f (6 * j + 2))) ?_
  rintro v1 h1 ⟨code, rfl, ⟨⟨gg, cy⟩, old⟩, ⟨lf1, o1⟩, E2⟩
  have hs1 := old _ _ hsb hs
  refine r_istore_5 rfl ?_
  refine r_aload_2 rfl ?_
  refine r_aload_0 rfl ?_
  refine r_iload_4 rfl ?_
  refine r_push rfl ?_
  refine r_iadd rfl ?_
  refine r_ialdO rfl (hs1) (show nI (6 * j) + (1 : Int32) = nI (6 * j + 1) from nI_add _ 1) (show 6 * j + 1 < n by omega) (hn2) ?_
  refine r_aload_0 rfl ?_
  refine r_iload_4 rfl ?_
  refine r_push rfl ?_
  refine r_iadd rfl ?_
  refine r_ialdO rfl (hs1) (show nI (6 * j) + (2 : Int32) = nI (6 * j + 2) from nI_add _ 2) (show 6 * j + 2 < n by omega) (hn2) ?_
  skip
  refine r_invvE rfl rfl cy rfl rfl (by decide) E2 ?_
  rintro v2 h2 ⟨w, rfl, fin, ⟨lf, o2, e2⟩, g2, y2, e3⟩
  have tn := c_thr (G := G) y2 e3
  by_cases c0 : code = 0
  · refine r_istore_6 rfl ?_
    refine r_aload_2 rfl ?_
    refine r_invvP_0 rfl (y2) rfl rfl (by decide) (tn) ?_
    refine r_iload_5 rfl ?_
    refine r_iceqT rfl (rfl) ?_
    refine r_iload_5 rfl ?_
    refine r_ifneF rfl (c0) ?_
    refine r_aload_3 rfl ?_
    refine r_push rfl ?_
    refine r_lald rfl (o2) (rfl) (show 0 < 1 by decide) (by first | decide | omega) ?_
    refine r_iload_6 rfl ?_
    refine r_i2l rfl ?_
    refine r_lcmp rfl ?_
    refine r_ifeqT rfl (by rw [e2 c0]; exact lg_self _) ?_
    refine r_goto rfl ?_
    exact kont _ _ _ fin
  · refine r_istore_6 rfl ?_
    refine r_aload_2 rfl ?_
    refine r_invvP_0 rfl (y2) rfl rfl (by decide) (tn) ?_
    refine r_iload_5 rfl ?_
    refine r_iceqT rfl (rfl) ?_
    refine r_iload_5 rfl ?_
    refine r_ifneT rfl (c0) ?_
    refine r_goto rfl ?_
    exact kont _ _ _ fin
theorem k_goal (hs : h.1 s = some (.inl (100, n, .inl f))) (hsb : s < bs) (hj : 6 * j + 6 ≤ n) (hn : n ≤ 384) (st : STA G bs x h a) (kont : LK G bs x s j h a Q) : Wp G 60 mt_L_law 1095 (LL x s j X5 X6) [] h Q := by
  have hn2 : n < 2 ^ 31 := by omega
  refine r_aload_1 rfl ?_
  refine r_aload_0 rfl ?_
  refine r_iload_4 rfl ?_
  refine r_push rfl ?_
  refine r_iadd rfl ?_
  refine r_ialdO rfl (hs) (show nI (6 * j) + (1 : Int32) = nI (6 * j + 1) from nI_add _ 1) (show 6 * j + 1 < n by omega) (hn2) ?_
  refine r_aload_0 rfl ?_
  refine r_iload_4 rfl ?_
  refine r_push rfl ?_
  refine r_iadd rfl ?_
  refine r_ialdO rfl (hs) (show nI (6 * j) + (2 : Int32) = nI (6 * j + 2) from nI_add _ 2) (show 6 * j + 2 < n by omega) (hn2) ?_
  refine r_aload_3 rfl ?_
  skip
  refine r_invE rfl rfl rfl (by decide) (o_goal st (f (6 * j + 1)) (f (6 * j + 2))) ?_
  rintro v1 h1 ⟨code, rfl, ⟨⟨gg, cy⟩, old⟩, ⟨lf1, o1⟩, E2⟩
  have hs1 := old _ _ hsb hs
  refine r_istore_5 rfl ?_
  refine r_aload_2 rfl ?_
  refine r_aload_0 rfl ?_
  refine r_iload_4 rfl ?_
  refine r_push rfl ?_
  refine r_iadd rfl ?_
  refine r_ialdO rfl (hs1) (show nI (6 * j) + (1 : Int32) = nI (6 * j + 1) from nI_add _ 1) (show 6 * j + 1 < n by omega) (hn2) ?_
  refine r_aload_0 rfl ?_
  refine r_iload_4 rfl ?_
  refine r_push rfl ?_
  refine r_iadd rfl ?_
  refine r_ialdO rfl (hs1) (show nI (6 * j) + (2 : Int32) = nI (6 * j + 2) from nI_add _ 2) (show 6 * j + 2 < n by omega) (hn2) ?_
  skip
  refine r_invvE rfl rfl cy rfl rfl (by decide) E2 ?_
  rintro v2 h2 ⟨w, rfl, fin, ⟨lf, o2, e2⟩, g2, y2, e3⟩
  have tn := c_thr (G := G) y2 e3
  by_cases c0 : code = 0
  · refine r_istore_6 rfl ?_
    refine r_aload_2 rfl ?_
    refine r_invvP_0 rfl (y2) rfl rfl (by decide) (tn) ?_
    refine r_iload_5 rfl ?_
    refine r_iceqT rfl (rfl) ?_
    refine r_iload_5 rfl ?_
    refine r_ifneF rfl (c0) ?_
    refine r_aload_3 rfl ?_
    refine r_push rfl ?_
    refine r_lald rfl (o2) (rfl) (show 0 < 1 by decide) (by first | decide | omega) ?_
    refine r_iload_6 rfl ?_
    refine r_i2l rfl ?_
    refine r_lcmp rfl ?_
    refine r_ifeqT rfl (by rw [e2 c0]; exact lg_self _) ?_
    refine r_goto rfl ?_
    exact kont _ _ _ fin
  · refine r_istore_6 rfl ?_
    refine r_aload_2 rfl ?_
    refine r_invvP_0 rfl (y2) rfl rfl (by decide) (tn) ?_
    refine r_iload_5 rfl ?_
    refine r_iceqT rfl (rfl) ?_
    refine r_iload_5 rfl ?_
    refine r_ifneT rfl (c0) ?_
    refine r_goto rfl ?_
    exact kont _ _ _ fin
theorem k_rest (hs : h.1 s = some (.inl (100, n, .inl f))) (hsb : s < bs) (hj : 6 * j + 6 ≤ n) (hn : n ≤ 384) (st : STA G bs x h a) (kont : LK G bs x s j h a Q) : Wp G 60 mt_L_law 1163 (LL x s j X5 X6) [] h Q := by
  have hn2 : n < 2 ^ 31 := by omega
  refine r_aload_1 rfl ?_
  refine r_aload_0 rfl ?_
  refine r_iload_4 rfl ?_
  refine r_push rfl ?_
  refine r_iadd rfl ?_
  refine r_ialdO rfl (hs) (show nI (6 * j) + (1 : Int32) = nI (6 * j + 1) from nI_add _ 1) (show 6 * j + 1 < n by omega) (hn2) ?_
  refine r_aload_3 rfl ?_
  skip
  refine r_invE rfl rfl rfl (by decide) (o_rest st (f (6 * j + 1))) ?_
  rintro v1 h1 ⟨code, rfl, ⟨⟨gg, cy⟩, old⟩, ⟨lf1, o1⟩, E2⟩
  have hs1 := old _ _ hsb hs
  refine r_istore_5 rfl ?_
  refine r_aload_2 rfl ?_
  refine r_aload_0 rfl ?_
  refine r_iload_4 rfl ?_
  refine r_push rfl ?_
  refine r_iadd rfl ?_
  refine r_ialdO rfl (hs1) (show nI (6 * j) + (1 : Int32) = nI (6 * j + 1) from nI_add _ 1) (show 6 * j + 1 < n by omega) (hn2) ?_
  skip
  refine r_invvE rfl rfl cy rfl rfl (by decide) E2 ?_
  rintro v2 h2 ⟨w, rfl, fin, ⟨lf, o2, e2⟩, g2, y2, e3⟩
  have tn := c_thr (G := G) y2 e3
  by_cases c0 : code = 0
  · refine r_istore_6 rfl ?_
    refine r_aload_2 rfl ?_
    refine r_invvP_0 rfl (y2) rfl rfl (by decide) (tn) ?_
    refine r_iload_5 rfl ?_
    refine r_iceqT rfl (rfl) ?_
    refine r_iload_5 rfl ?_
    refine r_ifneF rfl (c0) ?_
    refine r_aload_3 rfl ?_
    refine r_push rfl ?_
    refine r_lald rfl (o2) (rfl) (show 0 < 1 by decide) (by first | decide | omega) ?_
    refine r_iload_6 rfl ?_
    refine r_i2l rfl ?_
    refine r_lcmp rfl ?_
    refine r_ifeqT rfl (by rw [e2 c0]; exact lg_self _) ?_
    refine r_goto rfl ?_
    exact kont _ _ _ fin
  · refine r_istore_6 rfl ?_
    refine r_aload_2 rfl ?_
    refine r_invvP_0 rfl (y2) rfl rfl (by decide) (tn) ?_
    refine r_iload_5 rfl ?_
    refine r_iceqT rfl (rfl) ?_
    refine r_iload_5 rfl ?_
    refine r_ifneT rfl (c0) ?_
    refine r_goto rfl ?_
    exact kont _ _ _ fin
theorem k_hours (hs : h.1 s = some (.inl (100, n, .inl f))) (hsb : s < bs) (hj : 6 * j + 6 ≤ n) (hn : n ≤ 384) (st : STA G bs x h a) (kont : LK G bs x s j h a Q) : Wp G 60 mt_L_law 1219 (LL x s j X5 X6) [] h Q := by
  have hn2 : n < 2 ^ 31 := by omega
  refine r_aload_1 rfl ?_
  refine r_aload_0 rfl ?_
  refine r_iload_4 rfl ?_
  refine r_push rfl ?_
  refine r_iadd rfl ?_
  refine r_ialdO rfl (hs) (show nI (6 * j) + (1 : Int32) = nI (6 * j + 1) from nI_add _ 1) (show 6 * j + 1 < n by omega) (hn2) ?_
  refine r_aload_3 rfl ?_
  skip
  refine r_invE rfl rfl rfl (by decide) (o_hours st (f (6 * j + 1))) ?_
  rintro v1 h1 ⟨code, rfl, ⟨⟨gg, cy⟩, old⟩, ⟨lf1, o1⟩, E2⟩
  have hs1 := old _ _ hsb hs
  refine r_istore_5 rfl ?_
  refine r_aload_2 rfl ?_
  refine r_aload_0 rfl ?_
  refine r_iload_4 rfl ?_
  refine r_push rfl ?_
  refine r_iadd rfl ?_
  refine r_ialdO rfl (hs1) (show nI (6 * j) + (1 : Int32) = nI (6 * j + 1) from nI_add _ 1) (show 6 * j + 1 < n by omega) (hn2) ?_
  skip
  refine r_invvE rfl rfl cy rfl rfl (by decide) E2 ?_
  rintro v2 h2 ⟨w, rfl, fin, ⟨lf, o2, e2⟩, g2, y2, e3⟩
  have tn := c_thr (G := G) y2 e3
  by_cases c0 : code = 0
  · refine r_istore_6 rfl ?_
    refine r_aload_2 rfl ?_
    refine r_invvP_0 rfl (y2) rfl rfl (by decide) (tn) ?_
    refine r_iload_5 rfl ?_
    refine r_iceqT rfl (rfl) ?_
    refine r_iload_5 rfl ?_
    refine r_ifneF rfl (c0) ?_
    refine r_aload_3 rfl ?_
    refine r_push rfl ?_
    refine r_lald rfl (o2) (rfl) (show 0 < 1 by decide) (by first | decide | omega) ?_
    refine r_iload_6 rfl ?_
    refine r_i2l rfl ?_
    refine r_lcmp rfl ?_
    refine r_ifeqT rfl (by rw [e2 c0]; exact lg_self _) ?_
    refine r_goto rfl ?_
    exact kont _ _ _ fin
  · refine r_istore_6 rfl ?_
    refine r_aload_2 rfl ?_
    refine r_invvP_0 rfl (y2) rfl rfl (by decide) (tn) ?_
    refine r_iload_5 rfl ?_
    refine r_iceqT rfl (rfl) ?_
    refine r_iload_5 rfl ?_
    refine r_ifneT rfl (c0) ?_
    refine r_goto rfl ?_
    exact kont _ _ _ fin
theorem k_way (hs : h.1 s = some (.inl (100, n, .inl f))) (hsb : s < bs) (hj : 6 * j + 6 ≤ n) (hn : n ≤ 384) (st : STA G bs x h a) (kont : LK G bs x s j h a Q) : Wp G 60 mt_L_law 1275 (LL x s j X5 X6) [] h Q := by
  have hn2 : n < 2 ^ 31 := by omega
  refine r_aload_1 rfl ?_
  refine r_aload_0 rfl ?_
  refine r_iload_4 rfl ?_
  refine r_push rfl ?_
  refine r_iadd rfl ?_
  refine r_ialdO rfl (hs) (show nI (6 * j) + (1 : Int32) = nI (6 * j + 1) from nI_add _ 1) (show 6 * j + 1 < n by omega) (hn2) ?_
  refine r_aload_0 rfl ?_
  refine r_iload_4 rfl ?_
  refine r_push rfl ?_
  refine r_iadd rfl ?_
  refine r_ialdO rfl (hs) (show nI (6 * j) + (2 : Int32) = nI (6 * j + 2) from nI_add _ 2) (show 6 * j + 2 < n by omega) (hn2) ?_
  refine r_aload_3 rfl ?_
  skip
  refine r_invE rfl rfl rfl (by decide) (o_way st (f (6 * j + 1)) (f (6 * j + 2))) ?_
  rintro v1 h1 ⟨code, rfl, ⟨⟨gg, cy⟩, old⟩, ⟨lf1, o1⟩, E2⟩
  have hs1 := old _ _ hsb hs
  refine r_istore_5 rfl ?_
  refine r_aload_2 rfl ?_
  refine r_aload_0 rfl ?_
  refine r_iload_4 rfl ?_
  refine r_push rfl ?_
  refine r_iadd rfl ?_
  refine r_ialdO rfl (hs1) (show nI (6 * j) + (1 : Int32) = nI (6 * j + 1) from nI_add _ 1) (show 6 * j + 1 < n by omega) (hn2) ?_
  refine r_aload_0 rfl ?_
  refine r_iload_4 rfl ?_
  refine r_push rfl ?_
  refine r_iadd rfl ?_
  refine r_ialdO rfl (hs1) (show nI (6 * j) + (2 : Int32) = nI (6 * j + 2) from nI_add _ 2) (show 6 * j + 2 < n by omega) (hn2) ?_
  skip
  refine r_invvE rfl rfl cy rfl rfl (by decide) E2 ?_
  rintro v2 h2 ⟨w, rfl, fin, ⟨lf, o2, e2⟩, g2, y2, e3⟩
  have tn := c_thr (G := G) y2 e3
  by_cases c0 : code = 0
  · refine r_istore_6 rfl ?_
    refine r_aload_2 rfl ?_
    refine r_invvP_0 rfl (y2) rfl rfl (by decide) (tn) ?_
    refine r_iload_5 rfl ?_
    refine r_iceqT rfl (rfl) ?_
    refine r_iload_5 rfl ?_
    refine r_ifneF rfl (c0) ?_
    refine r_aload_3 rfl ?_
    refine r_push rfl ?_
    refine r_lald rfl (o2) (rfl) (show 0 < 1 by decide) (by first | decide | omega) ?_
    refine r_iload_6 rfl ?_
    refine r_i2l rfl ?_
    refine r_lcmp rfl ?_
    refine r_ifeqT rfl (by rw [e2 c0]; exact lg_self _) ?_
    refine r_goto rfl ?_
    exact kont _ _ _ fin
  · refine r_istore_6 rfl ?_
    refine r_aload_2 rfl ?_
    refine r_invvP_0 rfl (y2) rfl rfl (by decide) (tn) ?_
    refine r_iload_5 rfl ?_
    refine r_iceqT rfl (rfl) ?_
    refine r_iload_5 rfl ?_
    refine r_ifneT rfl (c0) ?_
    refine r_goto rfl ?_
    exact kont _ _ _ fin
theorem k_soonest (hs : h.1 s = some (.inl (100, n, .inl f))) (hsb : s < bs) (hj : 6 * j + 6 ≤ n) (hn : n ≤ 384) (st : STA G bs x h a) (kont : LK G bs x s j h a Q) : Wp G 60 mt_L_law 1343 (LL x s j X5 X6) [] h Q := by
  have hn2 : n < 2 ^ 31 := by omega
  refine r_aload_1 rfl ?_
  refine r_aload_0 rfl ?_
  refine r_iload_4 rfl ?_
  refine r_push rfl ?_
  refine r_iadd rfl ?_
  refine r_ialdO rfl (hs) (show nI (6 * j) + (1 : Int32) = nI (6 * j + 1) from nI_add _ 1) (show 6 * j + 1 < n by omega) (hn2) ?_
  refine r_aload_3 rfl ?_
  skip
  refine r_invE rfl rfl rfl (by decide) (o_soonest st (f (6 * j + 1))) ?_
  rintro v1 h1 ⟨code, rfl, ⟨⟨gg, cy⟩, old⟩, ⟨lf1, o1⟩, E2⟩
  have hs1 := old _ _ hsb hs
  refine r_istore_5 rfl ?_
  refine r_aload_2 rfl ?_
  refine r_aload_0 rfl ?_
  refine r_iload_4 rfl ?_
  refine r_push rfl ?_
  refine r_iadd rfl ?_
  refine r_ialdO rfl (hs1) (show nI (6 * j) + (1 : Int32) = nI (6 * j + 1) from nI_add _ 1) (show 6 * j + 1 < n by omega) (hn2) ?_
  skip
  refine r_invvE rfl rfl cy rfl rfl (by decide) E2 ?_
  rintro v2 h2 ⟨w, rfl, fin, ⟨lf, o2, e2⟩, g2, y2, e3⟩
  have tn := c_thr (G := G) y2 e3
  by_cases c0 : code = 0
  · refine r_istore_6 rfl ?_
    refine r_aload_2 rfl ?_
    refine r_invvP_0 rfl (y2) rfl rfl (by decide) (tn) ?_
    refine r_iload_5 rfl ?_
    refine r_iceqT rfl (rfl) ?_
    refine r_iload_5 rfl ?_
    refine r_ifneF rfl (c0) ?_
    refine r_aload_3 rfl ?_
    refine r_push rfl ?_
    refine r_lald rfl (o2) (rfl) (show 0 < 1 by decide) (by first | decide | omega) ?_
    refine r_iload_6 rfl ?_
    refine r_i2l rfl ?_
    refine r_lcmp rfl ?_
    refine r_ifeqT rfl (by rw [e2 c0]; exact lg_self _) ?_
    refine r_goto rfl ?_
    exact kont _ _ _ fin
  · refine r_istore_6 rfl ?_
    refine r_aload_2 rfl ?_
    refine r_invvP_0 rfl (y2) rfl rfl (by decide) (tn) ?_
    refine r_iload_5 rfl ?_
    refine r_iceqT rfl (rfl) ?_
    refine r_iload_5 rfl ?_
    refine r_ifneT rfl (c0) ?_
    refine r_goto rfl ?_
    exact kont _ _ _ fin
theorem k_cross (hs : h.1 s = some (.inl (100, n, .inl f))) (hsb : s < bs) (hj : 6 * j + 6 ≤ n) (hn : n ≤ 384) (st : STA G bs x h a) (kont : LK G bs x s j h a Q) : Wp G 60 mt_L_law 1399 (LL x s j X5 X6) [] h Q := by
  have hn2 : n < 2 ^ 31 := by omega
  refine r_aload_1 rfl ?_
  refine r_aload_0 rfl ?_
  refine r_iload_4 rfl ?_
  refine r_push rfl ?_
  refine r_iadd rfl ?_
  refine r_ialdO rfl (hs) (show nI (6 * j) + (1 : Int32) = nI (6 * j + 1) from nI_add _ 1) (show 6 * j + 1 < n by omega) (hn2) ?_
  refine r_aload_3 rfl ?_
  skip
  refine r_invE rfl rfl rfl (by decide) (o_crossW st (f (6 * j + 1))) ?_
  rintro v1 h1 ⟨code, rfl, ⟨⟨gg, cy⟩, old⟩, ⟨lf1, o1⟩, E2⟩
  have hs1 := old _ _ hsb hs
  refine r_istore_5 rfl ?_
  refine r_aload_2 rfl ?_
  refine r_aload_0 rfl ?_
  refine r_iload_4 rfl ?_
  refine r_push rfl ?_
  refine r_iadd rfl ?_
  refine r_ialdO rfl (hs1) (show nI (6 * j) + (1 : Int32) = nI (6 * j + 1) from nI_add _ 1) (show 6 * j + 1 < n by omega) (hn2) ?_
  skip
  refine r_invvE rfl rfl cy rfl rfl (by decide) E2 ?_
  rintro v2 h2 ⟨w, rfl, fin, ⟨lf, o2, e2⟩, g2, y2, e3⟩
  have tn := c_thr (G := G) y2 e3
  by_cases c0 : code = 0
  · obtain ⟨e4, e5⟩ := e2 c0
    rcases e5 with rfl | rfl
    · refine r_istore_6 rfl ?_
      refine r_aload_2 rfl ?_
      refine r_invvP_0 rfl (y2) rfl rfl (by decide) (tn) ?_
      refine r_iload_5 rfl ?_
      refine r_iceqT rfl (rfl) ?_
      refine r_iload_5 rfl ?_
      refine r_ifneF rfl (c0) ?_
      refine r_aload_3 rfl ?_
      refine r_push rfl ?_
      refine r_lald rfl (o2) (rfl) (show 0 < 1 by decide) (by first | decide | omega) ?_
      refine r_iload_6 rfl ?_
      refine r_ifeqT rfl (by decide) ?_
      refine r_push rfl ?_
      refine r_lcmp rfl ?_
      refine r_ifeqT rfl (by rw [e4]; exact lg_self _) ?_
      refine r_goto rfl ?_
      exact kont _ _ _ fin
    · refine r_istore_6 rfl ?_
      refine r_aload_2 rfl ?_
      refine r_invvP_0 rfl (y2) rfl rfl (by decide) (tn) ?_
      refine r_iload_5 rfl ?_
      refine r_iceqT rfl (rfl) ?_
      refine r_iload_5 rfl ?_
      refine r_ifneF rfl (c0) ?_
      refine r_aload_3 rfl ?_
      refine r_push rfl ?_
      refine r_lald rfl (o2) (rfl) (show 0 < 1 by decide) (by first | decide | omega) ?_
      refine r_iload_6 rfl ?_
      refine r_ifeqF rfl (by decide) ?_
      refine r_push rfl ?_
      refine r_goto rfl ?_
      refine r_lcmp rfl ?_
      refine r_ifeqT rfl (by rw [e4]; exact lg_self _) ?_
      refine r_goto rfl ?_
      exact kont _ _ _ fin
  · refine r_istore_6 rfl ?_
    refine r_aload_2 rfl ?_
    refine r_invvP_0 rfl (y2) rfl rfl (by decide) (tn) ?_
    refine r_iload_5 rfl ?_
    refine r_iceqT rfl (rfl) ?_
    refine r_iload_5 rfl ?_
    refine r_ifneT rfl (c0) ?_
    refine r_goto rfl ?_
    exact kont _ _ _ fin
theorem k_shed (hs : h.1 s = some (.inl (100, n, .inl f))) (hsb : s < bs) (hj : 6 * j + 6 ≤ n) (hn : n ≤ 384) (st : STA G bs x h a) (kont : LK G bs x s j h a Q) : Wp G 60 mt_L_law 1462 (LL x s j X5 X6) [] h Q := by
  have hn2 : n < 2 ^ 31 := by omega
  refine r_aload_1 rfl ?_
  refine r_aload_0 rfl ?_
  refine r_iload_4 rfl ?_
  refine r_push rfl ?_
  refine r_iadd rfl ?_
  refine r_ialdO rfl (hs) (show nI (6 * j) + (1 : Int32) = nI (6 * j + 1) from nI_add _ 1) (show 6 * j + 1 < n by omega) (hn2) ?_
  refine r_aload_3 rfl ?_
  skip
  refine r_invE rfl rfl rfl (by decide) (o_shed st (f (6 * j + 1))) ?_
  rintro v1 h1 ⟨code, rfl, ⟨⟨gg, cy⟩, old⟩, ⟨lf1, o1⟩, E2⟩
  have hs1 := old _ _ hsb hs
  refine r_istore_5 rfl ?_
  refine r_aload_2 rfl ?_
  refine r_aload_0 rfl ?_
  refine r_iload_4 rfl ?_
  refine r_push rfl ?_
  refine r_iadd rfl ?_
  refine r_ialdO rfl (hs1) (show nI (6 * j) + (1 : Int32) = nI (6 * j + 1) from nI_add _ 1) (show 6 * j + 1 < n by omega) (hn2) ?_
  skip
  refine r_invvE rfl rfl cy rfl rfl (by decide) E2 ?_
  rintro v2 h2 ⟨w, rfl, fin, ⟨lf, o2, e2⟩, g2, y2, e3⟩
  have tn := c_thr (G := G) y2 e3
  by_cases c0 : code = 0
  · refine r_istore_6 rfl ?_
    refine r_aload_2 rfl ?_
    refine r_invvP_0 rfl (y2) rfl rfl (by decide) (tn) ?_
    refine r_iload_5 rfl ?_
    refine r_iceqT rfl (rfl) ?_
    refine r_iload_5 rfl ?_
    refine r_ifneF rfl (c0) ?_
    refine r_aload_3 rfl ?_
    refine r_push rfl ?_
    refine r_lald rfl (o2) (rfl) (show 0 < 1 by decide) (by first | decide | omega) ?_
    refine r_iload_6 rfl ?_
    refine r_i2l rfl ?_
    refine r_lcmp rfl ?_
    refine r_ifeqT rfl (by rw [e2 c0]; exact lg_self _) ?_
    refine r_goto rfl ?_
    exact kont _ _ _ fin
  · refine r_istore_6 rfl ?_
    refine r_aload_2 rfl ?_
    refine r_invvP_0 rfl (y2) rfl rfl (by decide) (tn) ?_
    refine r_iload_5 rfl ?_
    refine r_iceqT rfl (rfl) ?_
    refine r_iload_5 rfl ?_
    refine r_ifneT rfl (c0) ?_
    refine r_goto rfl ?_
    exact kont _ _ _ fin
theorem k_share (hs : h.1 s = some (.inl (100, n, .inl f))) (hsb : s < bs) (hj : 6 * j + 6 ≤ n) (hn : n ≤ 384) (st : STA G bs x h a) (kont : LK G bs x s j h a Q) : Wp G 60 mt_L_law 1518 (LL x s j X5 X6) [] h Q := by
  have hn2 : n < 2 ^ 31 := by omega
  refine r_aload_1 rfl ?_
  refine r_aload_0 rfl ?_
  refine r_iload_4 rfl ?_
  refine r_push rfl ?_
  refine r_iadd rfl ?_
  refine r_ialdO rfl (hs) (show nI (6 * j) + (1 : Int32) = nI (6 * j + 1) from nI_add _ 1) (show 6 * j + 1 < n by omega) (hn2) ?_
  refine r_aload_0 rfl ?_
  refine r_iload_4 rfl ?_
  refine r_push rfl ?_
  refine r_iadd rfl ?_
  refine r_ialdO rfl (hs) (show nI (6 * j) + (2 : Int32) = nI (6 * j + 2) from nI_add _ 2) (show 6 * j + 2 < n by omega) (hn2) ?_
  refine r_aload_3 rfl ?_
  skip
  refine r_invE rfl rfl rfl (by decide) (o_share st (f (6 * j + 1)) (f (6 * j + 2))) ?_
  rintro v1 h1 ⟨code, rfl, ⟨⟨gg, cy⟩, old⟩, ⟨lf1, o1⟩, E2⟩
  have hs1 := old _ _ hsb hs
  refine r_istore_5 rfl ?_
  refine r_aload_2 rfl ?_
  refine r_aload_0 rfl ?_
  refine r_iload_4 rfl ?_
  refine r_push rfl ?_
  refine r_iadd rfl ?_
  refine r_ialdO rfl (hs1) (show nI (6 * j) + (1 : Int32) = nI (6 * j + 1) from nI_add _ 1) (show 6 * j + 1 < n by omega) (hn2) ?_
  refine r_aload_0 rfl ?_
  refine r_iload_4 rfl ?_
  refine r_push rfl ?_
  refine r_iadd rfl ?_
  refine r_ialdO rfl (hs1) (show nI (6 * j) + (2 : Int32) = nI (6 * j + 2) from nI_add _ 2) (show 6 * j + 2 < n by omega) (hn2) ?_
  skip
  refine r_invvE rfl rfl cy rfl rfl (by decide) E2 ?_
  rintro v2 h2 ⟨w, rfl, fin, ⟨lf, o2, e2⟩, g2, y2, e3⟩
  have tn := c_thr (G := G) y2 e3
  by_cases c0 : code = 0
  · refine r_istore_6 rfl ?_
    refine r_aload_2 rfl ?_
    refine r_invvP_0 rfl (y2) rfl rfl (by decide) (tn) ?_
    refine r_iload_5 rfl ?_
    refine r_iceqT rfl (rfl) ?_
    refine r_iload_5 rfl ?_
    refine r_ifneF rfl (c0) ?_
    refine r_aload_3 rfl ?_
    refine r_push rfl ?_
    refine r_lald rfl (o2) (rfl) (show 0 < 1 by decide) (by first | decide | omega) ?_
    refine r_iload_6 rfl ?_
    refine r_i2l rfl ?_
    refine r_lcmp rfl ?_
    refine r_ifeqT rfl (by rw [e2 c0]; exact lg_self _) ?_
    refine r_goto rfl ?_
    exact kont _ _ _ fin
  · refine r_istore_6 rfl ?_
    refine r_aload_2 rfl ?_
    refine r_invvP_0 rfl (y2) rfl rfl (by decide) (tn) ?_
    refine r_iload_5 rfl ?_
    refine r_iceqT rfl (rfl) ?_
    refine r_iload_5 rfl ?_
    refine r_ifneT rfl (c0) ?_
    refine r_goto rfl ?_
    exact kont _ _ _ fin
theorem k_goes (hs : h.1 s = some (.inl (100, n, .inl f))) (hsb : s < bs) (hj : 6 * j + 6 ≤ n) (hn : n ≤ 384) (st : STA G bs x h a) (kont : LK G bs x s j h a Q) : Wp G 60 mt_L_law 1586 (LL x s j X5 X6) [] h Q := by
  have hn2 : n < 2 ^ 31 := by omega
  have ox := st_o st
  refine r_aload_1 rfl ?_
  skip
  obtain ⟨w, E1⟩ := o_goes st 
  refine r_invvE rfl rfl ox rfl rfl (by decide) E1 ?_
  rintro v1 h1 ⟨rfl, ⟨⟨gg, cy⟩, old⟩, E2⟩
  have hs1 := old _ _ hsb hs
  refine r_aload_2 rfl ?_
  skip
  refine r_invvE rfl rfl cy rfl rfl (by decide) E2 ?_
  rintro v2 h2 ⟨rfl, fin⟩
  refine r_iceqT rfl (rfl) ?_
  exact kont _ _ _ fin
theorem k_pays (hs : h.1 s = some (.inl (100, n, .inl f))) (hsb : s < bs) (hj : 6 * j + 6 ≤ n) (hn : n ≤ 384) (st : STA G bs x h a) (kont : LK G bs x s j h a Q) : Wp G 60 mt_L_law 1599 (LL x s j X5 X6) [] h Q := by
  have hn2 : n < 2 ^ 31 := by omega
  by_cases b : f (6 * j + 2) = 0
  · refine r_aload_1 rfl ?_
    refine r_aload_0 rfl ?_
    refine r_iload_4 rfl ?_
    refine r_push rfl ?_
    refine r_iadd rfl ?_
    refine r_ialdO rfl (hs) (show nI (6 * j) + (1 : Int32) = nI (6 * j + 1) from nI_add _ 1) (show 6 * j + 1 < n by omega) (hn2) ?_
    refine r_aload_0 rfl ?_
    refine r_iload_4 rfl ?_
    refine r_push rfl ?_
    refine r_iadd rfl ?_
    refine r_ialdO rfl (hs) (show nI (6 * j) + (2 : Int32) = nI (6 * j + 2) from nI_add _ 2) (show 6 * j + 2 < n by omega) (hn2) ?_
    refine r_ifeqT rfl (b) ?_
    refine r_push rfl ?_
    refine r_aload_3 rfl ?_
    skip
    refine r_invE rfl rfl rfl (by decide) (o_pays st (f (6 * j + 1)) 0) ?_
    rintro v1 h1 ⟨code, rfl, ⟨⟨gg, cy⟩, old⟩, ⟨lf1, o1⟩, E2⟩
    have hs1 := old _ _ hsb hs
    refine r_istore_5 rfl ?_
    refine r_aload_2 rfl ?_
    refine r_aload_0 rfl ?_
    refine r_iload_4 rfl ?_
    refine r_push rfl ?_
    refine r_iadd rfl ?_
    refine r_ialdO rfl (hs1) (show nI (6 * j) + (1 : Int32) = nI (6 * j + 1) from nI_add _ 1) (show 6 * j + 1 < n by omega) (hn2) ?_
    refine r_aload_0 rfl ?_
    refine r_iload_4 rfl ?_
    refine r_push rfl ?_
    refine r_iadd rfl ?_
    refine r_ialdO rfl (hs1) (show nI (6 * j) + (2 : Int32) = nI (6 * j + 2) from nI_add _ 2) (show 6 * j + 2 < n by omega) (hn2) ?_
    refine r_ifeqT rfl (b) ?_
    refine r_push rfl ?_
    skip
    refine r_invvE rfl rfl cy rfl rfl (by decide) E2 ?_
    rintro v2 h2 ⟨w, rfl, fin, ⟨lf, o2, e2⟩, g2, y2, e3⟩
    have tn := c_thr (G := G) y2 e3
    by_cases c0 : code = 0
    · refine r_istore_6 rfl ?_
      refine r_aload_2 rfl ?_
      refine r_invvP_0 rfl (y2) rfl rfl (by decide) (tn) ?_
      refine r_iload_5 rfl ?_
      refine r_iceqT rfl (rfl) ?_
      refine r_iload_5 rfl ?_
      refine r_ifneF rfl (c0) ?_
      refine r_aload_3 rfl ?_
      refine r_push rfl ?_
      refine r_lald rfl (o2) (rfl) (show 0 < 1 by decide) (by first | decide | omega) ?_
      refine r_iload_6 rfl ?_
      refine r_i2l rfl ?_
      refine r_lcmp rfl ?_
      refine r_ifeqT rfl (by rw [e2 c0]; exact lg_self _) ?_
      refine r_goto rfl ?_
      exact kont _ _ _ fin
    · refine r_istore_6 rfl ?_
      refine r_aload_2 rfl ?_
      refine r_invvP_0 rfl (y2) rfl rfl (by decide) (tn) ?_
      refine r_iload_5 rfl ?_
      refine r_iceqT rfl (rfl) ?_
      refine r_iload_5 rfl ?_
      refine r_ifneT rfl (c0) ?_
      refine r_goto rfl ?_
      exact kont _ _ _ fin
  · refine r_aload_1 rfl ?_
    refine r_aload_0 rfl ?_
    refine r_iload_4 rfl ?_
    refine r_push rfl ?_
    refine r_iadd rfl ?_
    refine r_ialdO rfl (hs) (show nI (6 * j) + (1 : Int32) = nI (6 * j + 1) from nI_add _ 1) (show 6 * j + 1 < n by omega) (hn2) ?_
    refine r_aload_0 rfl ?_
    refine r_iload_4 rfl ?_
    refine r_push rfl ?_
    refine r_iadd rfl ?_
    refine r_ialdO rfl (hs) (show nI (6 * j) + (2 : Int32) = nI (6 * j + 2) from nI_add _ 2) (show 6 * j + 2 < n by omega) (hn2) ?_
    refine r_ifeqF rfl (b) ?_
    refine r_push rfl ?_
    refine r_goto rfl ?_
    refine r_aload_3 rfl ?_
    skip
    refine r_invE rfl rfl rfl (by decide) (o_pays st (f (6 * j + 1)) 1) ?_
    rintro v1 h1 ⟨code, rfl, ⟨⟨gg, cy⟩, old⟩, ⟨lf1, o1⟩, E2⟩
    have hs1 := old _ _ hsb hs
    refine r_istore_5 rfl ?_
    refine r_aload_2 rfl ?_
    refine r_aload_0 rfl ?_
    refine r_iload_4 rfl ?_
    refine r_push rfl ?_
    refine r_iadd rfl ?_
    refine r_ialdO rfl (hs1) (show nI (6 * j) + (1 : Int32) = nI (6 * j + 1) from nI_add _ 1) (show 6 * j + 1 < n by omega) (hn2) ?_
    refine r_aload_0 rfl ?_
    refine r_iload_4 rfl ?_
    refine r_push rfl ?_
    refine r_iadd rfl ?_
    refine r_ialdO rfl (hs1) (show nI (6 * j) + (2 : Int32) = nI (6 * j + 2) from nI_add _ 2) (show 6 * j + 2 < n by omega) (hn2) ?_
    refine r_ifeqF rfl (b) ?_
    refine r_push rfl ?_
    refine r_goto rfl ?_
    skip
    refine r_invvE rfl rfl cy rfl rfl (by decide) E2 ?_
    rintro v2 h2 ⟨w, rfl, fin, ⟨lf, o2, e2⟩, g2, y2, e3⟩
    have tn := c_thr (G := G) y2 e3
    by_cases c0 : code = 0
    · refine r_istore_6 rfl ?_
      refine r_aload_2 rfl ?_
      refine r_invvP_0 rfl (y2) rfl rfl (by decide) (tn) ?_
      refine r_iload_5 rfl ?_
      refine r_iceqT rfl (rfl) ?_
      refine r_iload_5 rfl ?_
      refine r_ifneF rfl (c0) ?_
      refine r_aload_3 rfl ?_
      refine r_push rfl ?_
      refine r_lald rfl (o2) (rfl) (show 0 < 1 by decide) (by first | decide | omega) ?_
      refine r_iload_6 rfl ?_
      refine r_i2l rfl ?_
      refine r_lcmp rfl ?_
      refine r_ifeqT rfl (by rw [e2 c0]; exact lg_self _) ?_
      refine r_goto rfl ?_
      exact kont _ _ _ fin
    · refine r_istore_6 rfl ?_
      refine r_aload_2 rfl ?_
      refine r_invvP_0 rfl (y2) rfl rfl (by decide) (tn) ?_
      refine r_iload_5 rfl ?_
      refine r_iceqT rfl (rfl) ?_
      refine r_iload_5 rfl ?_
      refine r_ifneT rfl (c0) ?_
      refine r_goto rfl ?_
      exact kont _ _ _ fin
theorem k_first (hs : h.1 s = some (.inl (100, n, .inl f))) (hsb : s < bs) (hj : 6 * j + 6 ≤ n) (hn : n ≤ 384) (st : STA G bs x h a) (kont : LK G bs x s j h a Q) : Wp G 60 mt_L_law 1683 (LL x s j X5 X6) [] h Q := by
  have hn2 : n < 2 ^ 31 := by omega
  refine r_aload_1 rfl ?_
  refine r_aload_0 rfl ?_
  refine r_iload_4 rfl ?_
  refine r_push rfl ?_
  refine r_iadd rfl ?_
  refine r_ialdO rfl (hs) (show nI (6 * j) + (1 : Int32) = nI (6 * j + 1) from nI_add _ 1) (show 6 * j + 1 < n by omega) (hn2) ?_
  refine r_aload_3 rfl ?_
  skip
  refine r_invE rfl rfl rfl (by decide) (o_first st (f (6 * j + 1))) ?_
  rintro v1 h1 ⟨code, rfl, ⟨⟨gg, cy⟩, old⟩, ⟨lf1, o1⟩, E2⟩
  have hs1 := old _ _ hsb hs
  refine r_istore_5 rfl ?_
  refine r_aload_2 rfl ?_
  refine r_aload_0 rfl ?_
  refine r_iload_4 rfl ?_
  refine r_push rfl ?_
  refine r_iadd rfl ?_
  refine r_ialdO rfl (hs1) (show nI (6 * j) + (1 : Int32) = nI (6 * j + 1) from nI_add _ 1) (show 6 * j + 1 < n by omega) (hn2) ?_
  skip
  refine r_invvE rfl rfl cy rfl rfl (by decide) E2 ?_
  rintro v2 h2 ⟨w, rfl, fin, ⟨lf, o2, e2⟩, g2, y2, e3⟩
  have tn := c_thr (G := G) y2 e3
  by_cases c0 : code = 0
  · refine r_istore_6 rfl ?_
    refine r_aload_2 rfl ?_
    refine r_invvP_0 rfl (y2) rfl rfl (by decide) (tn) ?_
    refine r_iload_5 rfl ?_
    refine r_iceqT rfl (rfl) ?_
    refine r_iload_5 rfl ?_
    refine r_ifneF rfl (c0) ?_
    refine r_aload_3 rfl ?_
    refine r_push rfl ?_
    refine r_lald rfl (o2) (rfl) (show 0 < 1 by decide) (by first | decide | omega) ?_
    refine r_iload_6 rfl ?_
    refine r_i2l rfl ?_
    refine r_lcmp rfl ?_
    refine r_ifeqT rfl (by rw [e2 c0]; exact lg_self _) ?_
    refine r_goto rfl ?_
    exact kont _ _ _ fin
  · refine r_istore_6 rfl ?_
    refine r_aload_2 rfl ?_
    refine r_invvP_0 rfl (y2) rfl rfl (by decide) (tn) ?_
    refine r_iload_5 rfl ?_
    refine r_iceqT rfl (rfl) ?_
    refine r_iload_5 rfl ?_
    refine r_ifneT rfl (c0) ?_
    refine r_goto rfl ?_
    exact kont _ _ _ fin
theorem k_owes (hs : h.1 s = some (.inl (100, n, .inl f))) (hsb : s < bs) (hj : 6 * j + 6 ≤ n) (hn : n ≤ 384) (st : STA G bs x h a) (kont : LK G bs x s j h a Q) : Wp G 60 mt_L_law 1739 (LL x s j X5 X6) [] h Q := by
  have hn2 : n < 2 ^ 31 := by omega
  refine r_aload_1 rfl ?_
  refine r_aload_0 rfl ?_
  refine r_iload_4 rfl ?_
  refine r_push rfl ?_
  refine r_iadd rfl ?_
  refine r_ialdO rfl (hs) (show nI (6 * j) + (1 : Int32) = nI (6 * j + 1) from nI_add _ 1) (show 6 * j + 1 < n by omega) (hn2) ?_
  refine r_aload_0 rfl ?_
  refine r_iload_4 rfl ?_
  refine r_push rfl ?_
  refine r_iadd rfl ?_
  refine r_ialdO rfl (hs) (show nI (6 * j) + (2 : Int32) = nI (6 * j + 2) from nI_add _ 2) (show 6 * j + 2 < n by omega) (hn2) ?_
  refine r_aload_3 rfl ?_
  skip
  refine r_invE rfl rfl rfl (by decide) (o_owesW st (f (6 * j + 1)) (f (6 * j + 2))) ?_
  rintro v1 h1 ⟨code, rfl, ⟨⟨gg, cy⟩, old⟩, ⟨lf1, o1⟩, E2⟩
  have hs1 := old _ _ hsb hs
  refine r_istore_5 rfl ?_
  refine r_aload_2 rfl ?_
  refine r_aload_0 rfl ?_
  refine r_iload_4 rfl ?_
  refine r_push rfl ?_
  refine r_iadd rfl ?_
  refine r_ialdO rfl (hs1) (show nI (6 * j) + (1 : Int32) = nI (6 * j + 1) from nI_add _ 1) (show 6 * j + 1 < n by omega) (hn2) ?_
  refine r_aload_0 rfl ?_
  refine r_iload_4 rfl ?_
  refine r_push rfl ?_
  refine r_iadd rfl ?_
  refine r_ialdO rfl (hs1) (show nI (6 * j) + (2 : Int32) = nI (6 * j + 2) from nI_add _ 2) (show 6 * j + 2 < n by omega) (hn2) ?_
  skip
  refine r_invvE rfl rfl cy rfl rfl (by decide) E2 ?_
  rintro v2 h2 ⟨w, rfl, fin, ⟨lf, o2, e2⟩, g2, y2, e3⟩
  have tn := c_thr (G := G) y2 e3
  by_cases c0 : code = 0
  · obtain ⟨e4, e5⟩ := e2 c0
    rcases e5 with rfl | rfl
    · refine r_istore_6 rfl ?_
      refine r_aload_2 rfl ?_
      refine r_invvP_0 rfl (y2) rfl rfl (by decide) (tn) ?_
      refine r_iload_5 rfl ?_
      refine r_iceqT rfl (rfl) ?_
      refine r_iload_5 rfl ?_
      refine r_ifneF rfl (c0) ?_
      refine r_aload_3 rfl ?_
      refine r_push rfl ?_
      refine r_lald rfl (o2) (rfl) (show 0 < 1 by decide) (by first | decide | omega) ?_
      refine r_iload_6 rfl ?_
      refine r_ifeqT rfl (by decide) ?_
      refine r_push rfl ?_
      refine r_lcmp rfl ?_
      refine r_ifeqT rfl (by rw [e4]; exact lg_self _) ?_
      refine r_goto rfl ?_
      exact kont _ _ _ fin
    · refine r_istore_6 rfl ?_
      refine r_aload_2 rfl ?_
      refine r_invvP_0 rfl (y2) rfl rfl (by decide) (tn) ?_
      refine r_iload_5 rfl ?_
      refine r_iceqT rfl (rfl) ?_
      refine r_iload_5 rfl ?_
      refine r_ifneF rfl (c0) ?_
      refine r_aload_3 rfl ?_
      refine r_push rfl ?_
      refine r_lald rfl (o2) (rfl) (show 0 < 1 by decide) (by first | decide | omega) ?_
      refine r_iload_6 rfl ?_
      refine r_ifeqF rfl (by decide) ?_
      refine r_push rfl ?_
      refine r_goto rfl ?_
      refine r_lcmp rfl ?_
      refine r_ifeqT rfl (by rw [e4]; exact lg_self _) ?_
      refine r_goto rfl ?_
      exact kont _ _ _ fin
  · refine r_istore_6 rfl ?_
    refine r_aload_2 rfl ?_
    refine r_invvP_0 rfl (y2) rfl rfl (by decide) (tn) ?_
    refine r_iload_5 rfl ?_
    refine r_iceqT rfl (rfl) ?_
    refine r_iload_5 rfl ?_
    refine r_ifneT rfl (c0) ?_
    refine r_goto rfl ?_
    exact kont _ _ _ fin
theorem k_rests (hs : h.1 s = some (.inl (100, n, .inl f))) (hsb : s < bs) (hj : 6 * j + 6 ≤ n) (hn : n ≤ 384) (st : STA G bs x h a) (kont : LK G bs x s j h a Q) : Wp G 60 mt_L_law 1814 (LL x s j X5 X6) [] h Q := by
  have hn2 : n < 2 ^ 31 := by omega
  refine r_aload_1 rfl ?_
  refine r_aload_0 rfl ?_
  refine r_iload_4 rfl ?_
  refine r_push rfl ?_
  refine r_iadd rfl ?_
  refine r_ialdO rfl (hs) (show nI (6 * j) + (1 : Int32) = nI (6 * j + 1) from nI_add _ 1) (show 6 * j + 1 < n by omega) (hn2) ?_
  refine r_aload_0 rfl ?_
  refine r_iload_4 rfl ?_
  refine r_push rfl ?_
  refine r_iadd rfl ?_
  refine r_ialdO rfl (hs) (show nI (6 * j) + (2 : Int32) = nI (6 * j + 2) from nI_add _ 2) (show 6 * j + 2 < n by omega) (hn2) ?_
  refine r_aload_0 rfl ?_
  refine r_iload_4 rfl ?_
  refine r_push rfl ?_
  refine r_iadd rfl ?_
  refine r_ialdO rfl (hs) (show nI (6 * j) + (3 : Int32) = nI (6 * j + 3) from nI_add _ 3) (show 6 * j + 3 < n by omega) (hn2) ?_
  refine r_aload_3 rfl ?_
  skip
  refine r_invE rfl rfl rfl (by decide) (o_rests st (f (6 * j + 1)) (f (6 * j + 2)) (f (6 * j + 3))) ?_
  rintro v1 h1 ⟨code, rfl, ⟨⟨gg, cy⟩, old⟩, ⟨lf1, o1⟩, E2⟩
  have hs1 := old _ _ hsb hs
  refine r_istore_5 rfl ?_
  refine r_aload_2 rfl ?_
  refine r_aload_0 rfl ?_
  refine r_iload_4 rfl ?_
  refine r_push rfl ?_
  refine r_iadd rfl ?_
  refine r_ialdO rfl (hs1) (show nI (6 * j) + (1 : Int32) = nI (6 * j + 1) from nI_add _ 1) (show 6 * j + 1 < n by omega) (hn2) ?_
  refine r_aload_0 rfl ?_
  refine r_iload_4 rfl ?_
  refine r_push rfl ?_
  refine r_iadd rfl ?_
  refine r_ialdO rfl (hs1) (show nI (6 * j) + (2 : Int32) = nI (6 * j + 2) from nI_add _ 2) (show 6 * j + 2 < n by omega) (hn2) ?_
  refine r_aload_0 rfl ?_
  refine r_iload_4 rfl ?_
  refine r_push rfl ?_
  refine r_iadd rfl ?_
  refine r_ialdO rfl (hs1) (show nI (6 * j) + (3 : Int32) = nI (6 * j + 3) from nI_add _ 3) (show 6 * j + 3 < n by omega) (hn2) ?_
  skip
  refine r_invvE rfl rfl cy rfl rfl (by decide) E2 ?_
  rintro v2 h2 ⟨w, rfl, fin, ⟨lf, o2, e2⟩, g2, y2, e3⟩
  have tn := c_thr (G := G) y2 e3
  by_cases c0 : code = 0
  · refine r_istore_6 rfl ?_
    refine r_aload_2 rfl ?_
    refine r_invvP_0 rfl (y2) rfl rfl (by decide) (tn) ?_
    refine r_iload_5 rfl ?_
    refine r_iceqT rfl (rfl) ?_
    refine r_iload_5 rfl ?_
    refine r_ifneF rfl (c0) ?_
    refine r_aload_3 rfl ?_
    refine r_push rfl ?_
    refine r_lald rfl (o2) (rfl) (show 0 < 1 by decide) (by first | decide | omega) ?_
    refine r_iload_6 rfl ?_
    refine r_i2l rfl ?_
    refine r_lcmp rfl ?_
    refine r_ifeqT rfl (by rw [e2 c0]; exact lg_self _) ?_
    refine r_goto rfl ?_
    exact kont _ _ _ fin
  · refine r_istore_6 rfl ?_
    refine r_aload_2 rfl ?_
    refine r_invvP_0 rfl (y2) rfl rfl (by decide) (tn) ?_
    refine r_iload_5 rfl ?_
    refine r_iceqT rfl (rfl) ?_
    refine r_iload_5 rfl ?_
    refine r_ifneT rfl (c0) ?_
    refine r_goto rfl ?_
    exact kont _ _ _ fin
theorem k_scales (hs : h.1 s = some (.inl (100, n, .inl f))) (hsb : s < bs) (hj : 6 * j + 6 ≤ n) (hn : n ≤ 384) (st : STA G bs x h a) (kont : LK G bs x s j h a Q) : Wp G 60 mt_L_law 1894 (LL x s j X5 X6) [] h Q := by
  have hn2 : n < 2 ^ 31 := by omega
  by_cases b : f (6 * j + 1) = 0
  · refine r_aload_1 rfl ?_
    refine r_aload_0 rfl ?_
    refine r_iload_4 rfl ?_
    refine r_push rfl ?_
    refine r_iadd rfl ?_
    refine r_ialdO rfl (hs) (show nI (6 * j) + (1 : Int32) = nI (6 * j + 1) from nI_add _ 1) (show 6 * j + 1 < n by omega) (hn2) ?_
    refine r_ifeqT rfl (b) ?_
    refine r_push rfl ?_
    refine r_aload_3 rfl ?_
    skip
    refine r_invE rfl rfl rfl (by decide) (o_scales st 0) ?_
    rintro v1 h1 ⟨code, rfl, ⟨⟨gg, cy⟩, old⟩, ⟨lf1, o1⟩, E2⟩
    have hs1 := old _ _ hsb hs
    refine r_istore_5 rfl ?_
    refine r_aload_2 rfl ?_
    refine r_aload_0 rfl ?_
    refine r_iload_4 rfl ?_
    refine r_push rfl ?_
    refine r_iadd rfl ?_
    refine r_ialdO rfl (hs1) (show nI (6 * j) + (1 : Int32) = nI (6 * j + 1) from nI_add _ 1) (show 6 * j + 1 < n by omega) (hn2) ?_
    refine r_ifeqT rfl (b) ?_
    refine r_push rfl ?_
    skip
    refine r_invvE rfl rfl cy rfl rfl (by decide) E2 ?_
    rintro v2 h2 ⟨w, rfl, fin, ⟨lf, o2, e2⟩, g2, y2, e3⟩
    have tn := c_thr (G := G) y2 e3
    by_cases c0 : code = 0
    · refine r_istore_6 rfl ?_
      refine r_aload_2 rfl ?_
      refine r_invvP_0 rfl (y2) rfl rfl (by decide) (tn) ?_
      refine r_iload_5 rfl ?_
      refine r_iceqT rfl (rfl) ?_
      refine r_iload_5 rfl ?_
      refine r_ifneF rfl (c0) ?_
      refine r_aload_3 rfl ?_
      refine r_push rfl ?_
      refine r_lald rfl (o2) (rfl) (show 0 < 1 by decide) (by first | decide | omega) ?_
      refine r_iload_6 rfl ?_
      refine r_i2l rfl ?_
      refine r_lcmp rfl ?_
      refine r_ifeqT rfl (by rw [e2 c0]; exact lg_self _) ?_
      refine r_goto rfl ?_
      exact kont _ _ _ fin
    · refine r_istore_6 rfl ?_
      refine r_aload_2 rfl ?_
      refine r_invvP_0 rfl (y2) rfl rfl (by decide) (tn) ?_
      refine r_iload_5 rfl ?_
      refine r_iceqT rfl (rfl) ?_
      refine r_iload_5 rfl ?_
      refine r_ifneT rfl (c0) ?_
      refine r_goto rfl ?_
      exact kont _ _ _ fin
  · refine r_aload_1 rfl ?_
    refine r_aload_0 rfl ?_
    refine r_iload_4 rfl ?_
    refine r_push rfl ?_
    refine r_iadd rfl ?_
    refine r_ialdO rfl (hs) (show nI (6 * j) + (1 : Int32) = nI (6 * j + 1) from nI_add _ 1) (show 6 * j + 1 < n by omega) (hn2) ?_
    refine r_ifeqF rfl (b) ?_
    refine r_push rfl ?_
    refine r_goto rfl ?_
    refine r_aload_3 rfl ?_
    skip
    refine r_invE rfl rfl rfl (by decide) (o_scales st 1) ?_
    rintro v1 h1 ⟨code, rfl, ⟨⟨gg, cy⟩, old⟩, ⟨lf1, o1⟩, E2⟩
    have hs1 := old _ _ hsb hs
    refine r_istore_5 rfl ?_
    refine r_aload_2 rfl ?_
    refine r_aload_0 rfl ?_
    refine r_iload_4 rfl ?_
    refine r_push rfl ?_
    refine r_iadd rfl ?_
    refine r_ialdO rfl (hs1) (show nI (6 * j) + (1 : Int32) = nI (6 * j + 1) from nI_add _ 1) (show 6 * j + 1 < n by omega) (hn2) ?_
    refine r_ifeqF rfl (b) ?_
    refine r_push rfl ?_
    refine r_goto rfl ?_
    skip
    refine r_invvE rfl rfl cy rfl rfl (by decide) E2 ?_
    rintro v2 h2 ⟨w, rfl, fin, ⟨lf, o2, e2⟩, g2, y2, e3⟩
    have tn := c_thr (G := G) y2 e3
    by_cases c0 : code = 0
    · refine r_istore_6 rfl ?_
      refine r_aload_2 rfl ?_
      refine r_invvP_0 rfl (y2) rfl rfl (by decide) (tn) ?_
      refine r_iload_5 rfl ?_
      refine r_iceqT rfl (rfl) ?_
      refine r_iload_5 rfl ?_
      refine r_ifneF rfl (c0) ?_
      refine r_aload_3 rfl ?_
      refine r_push rfl ?_
      refine r_lald rfl (o2) (rfl) (show 0 < 1 by decide) (by first | decide | omega) ?_
      refine r_iload_6 rfl ?_
      refine r_i2l rfl ?_
      refine r_lcmp rfl ?_
      refine r_ifeqT rfl (by rw [e2 c0]; exact lg_self _) ?_
      refine r_goto rfl ?_
      exact kont _ _ _ fin
    · refine r_istore_6 rfl ?_
      refine r_aload_2 rfl ?_
      refine r_invvP_0 rfl (y2) rfl rfl (by decide) (tn) ?_
      refine r_iload_5 rfl ?_
      refine r_iceqT rfl (rfl) ?_
      refine r_iload_5 rfl ?_
      refine r_ifneT rfl (c0) ?_
      refine r_goto rfl ?_
      exact kont _ _ _ fin
theorem k_weigh (hs : h.1 s = some (.inl (100, n, .inl f))) (hsb : s < bs) (hj : 6 * j + 6 ≤ n) (hn : n ≤ 384) (st : STA G bs x h a) (kont : LK G bs x s j h a Q) : Wp G 60 mt_L_law 1966 (LL x s j X5 X6) [] h Q := by
  have hn2 : n < 2 ^ 31 := by omega
  refine r_aload_1 rfl ?_
  refine r_aload_3 rfl ?_
  skip
  refine r_invE rfl rfl rfl (by decide) (o_weigh st ) ?_
  rintro v1 h1 ⟨code, rfl, ⟨⟨gg, cy⟩, old⟩, ⟨lf1, o1⟩, E2⟩
  have hs1 := old _ _ hsb hs
  refine r_istore_5 rfl ?_
  refine r_aload_2 rfl ?_
  skip
  refine r_invvE rfl rfl cy rfl rfl (by decide) E2 ?_
  rintro v2 h2 ⟨w, rfl, fin, ⟨lf, o2, e2⟩, g2, y2, e3⟩
  have tn := c_thr (G := G) y2 e3
  by_cases c0 : code = 0
  · refine r_istore_6 rfl ?_
    refine r_aload_2 rfl ?_
    refine r_invvP_0 rfl (y2) rfl rfl (by decide) (tn) ?_
    refine r_iload_5 rfl ?_
    refine r_iceqT rfl (rfl) ?_
    refine r_iload_5 rfl ?_
    refine r_ifneF rfl (c0) ?_
    refine r_aload_3 rfl ?_
    refine r_push rfl ?_
    refine r_lald rfl (o2) (rfl) (show 0 < 1 by decide) (by first | decide | omega) ?_
    refine r_iload_6 rfl ?_
    refine r_i2l rfl ?_
    refine r_lcmp rfl ?_
    refine r_ifeqT rfl (by rw [e2 c0]; exact lg_self _) ?_
    refine r_goto rfl ?_
    exact kont _ _ _ fin
  · refine r_istore_6 rfl ?_
    refine r_aload_2 rfl ?_
    refine r_invvP_0 rfl (y2) rfl rfl (by decide) (tn) ?_
    refine r_iload_5 rfl ?_
    refine r_iceqT rfl (rfl) ?_
    refine r_iload_5 rfl ?_
    refine r_ifneT rfl (c0) ?_
    refine r_goto rfl ?_
    exact kont _ _ _ fin
theorem k_meet (hs : h.1 s = some (.inl (100, n, .inl f))) (hsb : s < bs) (hj : 6 * j + 6 ≤ n) (hn : n ≤ 384) (st : STA G bs x h a) (kont : LK G bs x s j h a Q) : Wp G 60 mt_L_law 2010 (LL x s j X5 X6) [] h Q := by
  have hn2 : n < 2 ^ 31 := by omega
  have ox := st_o st
  refine r_aload_1 rfl ?_
  skip
  obtain ⟨w, E1⟩ := o_meet st 
  refine r_invvE rfl rfl ox rfl rfl (by decide) E1 ?_
  rintro v1 h1 ⟨rfl, ⟨⟨gg, cy⟩, old⟩, E2⟩
  have hs1 := old _ _ hsb hs
  refine r_aload_2 rfl ?_
  skip
  refine r_invvE rfl rfl cy rfl rfl (by decide) E2 ?_
  rintro v2 h2 ⟨rfl, fin⟩
  refine r_iceqT rfl (rfl) ?_
  exact kont _ _ _ fin
theorem k_last (hs : h.1 s = some (.inl (100, n, .inl f))) (hsb : s < bs) (hj : 6 * j + 6 ≤ n) (hn : n ≤ 384) (st : STA G bs x h a) (kont : LK G bs x s j h a Q) : Wp G 60 mt_L_law 2023 (LL x s j X5 X6) [] h Q := by
  have hn2 : n < 2 ^ 31 := by omega
  have ox := st_o st
  by_cases b : f (6 * j + 1) = 0
  · refine r_aload_1 rfl ?_
    refine r_aload_0 rfl ?_
    refine r_iload_4 rfl ?_
    refine r_push rfl ?_
    refine r_iadd rfl ?_
    refine r_ialdO rfl (hs) (show nI (6 * j) + (1 : Int32) = nI (6 * j + 1) from nI_add _ 1) (show 6 * j + 1 < n by omega) (hn2) ?_
    refine r_ifeqT rfl (b) ?_
    refine r_push rfl ?_
    skip
    obtain ⟨w, E1⟩ := o_last st 0
    refine r_invvE rfl rfl ox rfl rfl (by decide) E1 ?_
    rintro v1 h1 ⟨rfl, ⟨⟨gg, cy⟩, old⟩, E2⟩
    have hs1 := old _ _ hsb hs
    refine r_aload_2 rfl ?_
    refine r_aload_0 rfl ?_
    refine r_iload_4 rfl ?_
    refine r_push rfl ?_
    refine r_iadd rfl ?_
    refine r_ialdO rfl (hs1) (show nI (6 * j) + (1 : Int32) = nI (6 * j + 1) from nI_add _ 1) (show 6 * j + 1 < n by omega) (hn2) ?_
    refine r_ifeqT rfl (b) ?_
    refine r_push rfl ?_
    skip
    refine r_invvE rfl rfl cy rfl rfl (by decide) E2 ?_
    rintro v2 h2 ⟨rfl, fin⟩
    refine r_iceqT rfl (rfl) ?_
    exact kont _ _ _ fin
  · refine r_aload_1 rfl ?_
    refine r_aload_0 rfl ?_
    refine r_iload_4 rfl ?_
    refine r_push rfl ?_
    refine r_iadd rfl ?_
    refine r_ialdO rfl (hs) (show nI (6 * j) + (1 : Int32) = nI (6 * j + 1) from nI_add _ 1) (show 6 * j + 1 < n by omega) (hn2) ?_
    refine r_ifeqF rfl (b) ?_
    refine r_push rfl ?_
    refine r_goto rfl ?_
    skip
    obtain ⟨w, E1⟩ := o_last st 1
    refine r_invvE rfl rfl ox rfl rfl (by decide) E1 ?_
    rintro v1 h1 ⟨rfl, ⟨⟨gg, cy⟩, old⟩, E2⟩
    have hs1 := old _ _ hsb hs
    refine r_aload_2 rfl ?_
    refine r_aload_0 rfl ?_
    refine r_iload_4 rfl ?_
    refine r_push rfl ?_
    refine r_iadd rfl ?_
    refine r_ialdO rfl (hs1) (show nI (6 * j) + (1 : Int32) = nI (6 * j + 1) from nI_add _ 1) (show 6 * j + 1 < n by omega) (hn2) ?_
    refine r_ifeqF rfl (b) ?_
    refine r_push rfl ?_
    refine r_goto rfl ?_
    skip
    refine r_invvE rfl rfl cy rfl rfl (by decide) E2 ?_
    rintro v2 h2 ⟨rfl, fin⟩
    refine r_iceqT rfl (rfl) ?_
    exact kont _ _ _ fin
theorem k_heap (hs : h.1 s = some (.inl (100, n, .inl f))) (hsb : s < bs) (hj : 6 * j + 6 ≤ n) (hn : n ≤ 384) (st : STA G bs x h a) (kont : LK G bs x s j h a Q) : Wp G 60 mt_L_law 2064 (LL x s j X5 X6) [] h Q := by
  have hn2 : n < 2 ^ 31 := by omega
  have ox := st_o st
  refine r_aload_1 rfl ?_
  skip
  obtain ⟨w, E1⟩ := o_heap st 
  refine r_invvE rfl rfl ox rfl rfl (by decide) E1 ?_
  rintro v1 h1 ⟨rfl, ⟨⟨gg, cy⟩, old⟩, E2⟩
  have hs1 := old _ _ hsb hs
  refine r_aload_2 rfl ?_
  skip
  refine r_invvE rfl rfl cy rfl rfl (by decide) E2 ?_
  rintro v2 h2 ⟨rfl, fin⟩
  refine r_iceqT rfl (rfl) ?_
  exact kont _ _ _ fin
theorem k_pairs (hs : h.1 s = some (.inl (100, n, .inl f))) (hsb : s < bs) (hj : 6 * j + 6 ≤ n) (hn : n ≤ 384) (st : STA G bs x h a) (kont : LK G bs x s j h a Q) : Wp G 60 mt_L_law 2077 (LL x s j X5 X6) [] h Q := by
  have hn2 : n < 2 ^ 31 := by omega
  have ox := st_o st
  refine r_aload_1 rfl ?_
  skip
  obtain ⟨w, E1⟩ := o_pairs st 
  refine r_invvE rfl rfl ox rfl rfl (by decide) E1 ?_
  rintro v1 h1 ⟨rfl, ⟨⟨gg, cy⟩, old⟩, E2⟩
  have hs1 := old _ _ hsb hs
  refine r_aload_2 rfl ?_
  skip
  refine r_invvE rfl rfl cy rfl rfl (by decide) E2 ?_
  rintro v2 h2 ⟨rfl, fin⟩
  refine r_iceqT rfl (rfl) ?_
  exact kont _ _ _ fin
theorem k_heaviest (hs : h.1 s = some (.inl (100, n, .inl f))) (hsb : s < bs) (hj : 6 * j + 6 ≤ n) (hn : n ≤ 384) (st : STA G bs x h a) (kont : LK G bs x s j h a Q) : Wp G 60 mt_L_law 2090 (LL x s j X5 X6) [] h Q := by
  have hn2 : n < 2 ^ 31 := by omega
  have ox := st_o st
  refine r_aload_1 rfl ?_
  skip
  obtain ⟨w, E1⟩ := o_heaviest st 
  refine r_invvE rfl rfl ox rfl rfl (by decide) E1 ?_
  rintro v1 h1 ⟨rfl, ⟨⟨gg, cy⟩, old⟩, E2⟩
  have hs1 := old _ _ hsb hs
  refine r_aload_2 rfl ?_
  skip
  refine r_invvE rfl rfl cy rfl rfl (by decide) E2 ?_
  rintro v2 h2 ⟨rfl, fin⟩
  refine r_iceqT rfl (rfl) ?_
  exact kont _ _ _ fin
theorem k_gravel (hs : h.1 s = some (.inl (100, n, .inl f))) (hsb : s < bs) (hj : 6 * j + 6 ≤ n) (hn : n ≤ 384) (st : STA G bs x h a) (kont : LK G bs x s j h a Q) : Wp G 60 mt_L_law 2103 (LL x s j X5 X6) [] h Q := by
  have hn2 : n < 2 ^ 31 := by omega
  refine r_aload_1 rfl ?_
  refine r_aload_0 rfl ?_
  refine r_iload_4 rfl ?_
  refine r_push rfl ?_
  refine r_iadd rfl ?_
  refine r_ialdO rfl (hs) (show nI (6 * j) + (1 : Int32) = nI (6 * j + 1) from nI_add _ 1) (show 6 * j + 1 < n by omega) (hn2) ?_
  refine r_aload_3 rfl ?_
  skip
  refine r_invE rfl rfl rfl (by decide) (o_gravel st (f (6 * j + 1))) ?_
  rintro v1 h1 ⟨code, rfl, ⟨⟨gg, cy⟩, old⟩, ⟨lf1, o1⟩, E2⟩
  have hs1 := old _ _ hsb hs
  refine r_istore_5 rfl ?_
  refine r_aload_2 rfl ?_
  refine r_aload_0 rfl ?_
  refine r_iload_4 rfl ?_
  refine r_push rfl ?_
  refine r_iadd rfl ?_
  refine r_ialdO rfl (hs1) (show nI (6 * j) + (1 : Int32) = nI (6 * j + 1) from nI_add _ 1) (show 6 * j + 1 < n by omega) (hn2) ?_
  skip
  refine r_invvE rfl rfl cy rfl rfl (by decide) E2 ?_
  rintro v2 h2 ⟨w, rfl, fin, ⟨lf, o2, e2⟩, g2, y2, e3⟩
  have tn := c_thr (G := G) y2 e3
  by_cases c0 : code = 0
  · refine r_istore_6 rfl ?_
    refine r_aload_2 rfl ?_
    refine r_invvP_0 rfl (y2) rfl rfl (by decide) (tn) ?_
    refine r_iload_5 rfl ?_
    refine r_iceqT rfl (rfl) ?_
    refine r_iload_5 rfl ?_
    refine r_ifneF rfl (c0) ?_
    refine r_aload_3 rfl ?_
    refine r_push rfl ?_
    refine r_lald rfl (o2) (rfl) (show 0 < 1 by decide) (by first | decide | omega) ?_
    refine r_iload_6 rfl ?_
    refine r_i2l rfl ?_
    refine r_lcmp rfl ?_
    refine r_ifeqT rfl (by rw [e2 c0]; exact lg_self _) ?_
    refine r_goto rfl ?_
    exact kont _ _ _ fin
  · refine r_istore_6 rfl ?_
    refine r_aload_2 rfl ?_
    refine r_invvP_0 rfl (y2) rfl rfl (by decide) (tn) ?_
    refine r_iload_5 rfl ?_
    refine r_iceqT rfl (rfl) ?_
    refine r_iload_5 rfl ?_
    refine r_ifneT rfl (c0) ?_
    refine r_goto rfl ?_
    exact kont _ _ _ fin
theorem k_ahead (hs : h.1 s = some (.inl (100, n, .inl f))) (hsb : s < bs) (hj : 6 * j + 6 ≤ n) (hn : n ≤ 384) (st : STA G bs x h a) (kont : LK G bs x s j h a Q) : Wp G 60 mt_L_law 2159 (LL x s j X5 X6) [] h Q := by
  have hn2 : n < 2 ^ 31 := by omega
  refine r_aload_1 rfl ?_
  refine r_aload_0 rfl ?_
  refine r_iload_4 rfl ?_
  refine r_push rfl ?_
  refine r_iadd rfl ?_
  refine r_ialdO rfl (hs) (show nI (6 * j) + (1 : Int32) = nI (6 * j + 1) from nI_add _ 1) (show 6 * j + 1 < n by omega) (hn2) ?_
  refine r_aload_0 rfl ?_
  refine r_iload_4 rfl ?_
  refine r_push rfl ?_
  refine r_iadd rfl ?_
  refine r_ialdO rfl (hs) (show nI (6 * j) + (2 : Int32) = nI (6 * j + 2) from nI_add _ 2) (show 6 * j + 2 < n by omega) (hn2) ?_
  refine r_aload_0 rfl ?_
  refine r_iload_4 rfl ?_
  refine r_push rfl ?_
  refine r_iadd rfl ?_
  refine r_ialdO rfl (hs) (show nI (6 * j) + (3 : Int32) = nI (6 * j + 3) from nI_add _ 3) (show 6 * j + 3 < n by omega) (hn2) ?_
  refine r_aload_3 rfl ?_
  skip
  refine r_invE rfl rfl rfl (by decide) (o_ahead st (f (6 * j + 1)) (f (6 * j + 2)) (f (6 * j + 3))) ?_
  rintro v1 h1 ⟨code, rfl, ⟨⟨gg, cy⟩, old⟩, ⟨lf1, o1⟩, E2⟩
  have hs1 := old _ _ hsb hs
  refine r_istore_5 rfl ?_
  refine r_aload_2 rfl ?_
  refine r_aload_0 rfl ?_
  refine r_iload_4 rfl ?_
  refine r_push rfl ?_
  refine r_iadd rfl ?_
  refine r_ialdO rfl (hs1) (show nI (6 * j) + (1 : Int32) = nI (6 * j + 1) from nI_add _ 1) (show 6 * j + 1 < n by omega) (hn2) ?_
  refine r_aload_0 rfl ?_
  refine r_iload_4 rfl ?_
  refine r_push rfl ?_
  refine r_iadd rfl ?_
  refine r_ialdO rfl (hs1) (show nI (6 * j) + (2 : Int32) = nI (6 * j + 2) from nI_add _ 2) (show 6 * j + 2 < n by omega) (hn2) ?_
  refine r_aload_0 rfl ?_
  refine r_iload_4 rfl ?_
  refine r_push rfl ?_
  refine r_iadd rfl ?_
  refine r_ialdO rfl (hs1) (show nI (6 * j) + (3 : Int32) = nI (6 * j + 3) from nI_add _ 3) (show 6 * j + 3 < n by omega) (hn2) ?_
  skip
  refine r_invvE rfl rfl cy rfl rfl (by decide) E2 ?_
  rintro v2 h2 ⟨w, rfl, fin, ⟨lf, o2, e2⟩, g2, y2, e3⟩
  have tn := c_thr (G := G) y2 e3
  by_cases c0 : code = 0
  · refine r_istore_6 rfl ?_
    refine r_aload_2 rfl ?_
    refine r_invvP_0 rfl (y2) rfl rfl (by decide) (tn) ?_
    refine r_iload_5 rfl ?_
    refine r_iceqT rfl (rfl) ?_
    refine r_iload_5 rfl ?_
    refine r_ifneF rfl (c0) ?_
    refine r_aload_3 rfl ?_
    refine r_push rfl ?_
    refine r_lald rfl (o2) (rfl) (show 0 < 1 by decide) (by first | decide | omega) ?_
    refine r_iload_6 rfl ?_
    refine r_i2l rfl ?_
    refine r_lcmp rfl ?_
    refine r_ifeqT rfl (by rw [e2 c0]; exact lg_self _) ?_
    refine r_goto rfl ?_
    exact kont _ _ _ fin
  · refine r_istore_6 rfl ?_
    refine r_aload_2 rfl ?_
    refine r_invvP_0 rfl (y2) rfl rfl (by decide) (tn) ?_
    refine r_iload_5 rfl ?_
    refine r_iceqT rfl (rfl) ?_
    refine r_iload_5 rfl ?_
    refine r_ifneT rfl (c0) ?_
    refine r_goto rfl ?_
    exact kont _ _ _ fin
theorem k_trial (hs : h.1 s = some (.inl (100, n, .inl f))) (hsb : s < bs) (hj : 6 * j + 6 ≤ n) (hn : n ≤ 384) (st : STA G bs x h a) (kont : LK G bs x s j h a Q) : Wp G 60 mt_L_law 2239 (LL x s j X5 X6) [] h Q := by
  have hn2 : n < 2 ^ 31 := by omega
  by_cases b : f (6 * j + 2) = 0
  · refine r_aload_1 rfl ?_
    refine r_aload_0 rfl ?_
    refine r_iload_4 rfl ?_
    refine r_push rfl ?_
    refine r_iadd rfl ?_
    refine r_ialdO rfl (hs) (show nI (6 * j) + (1 : Int32) = nI (6 * j + 1) from nI_add _ 1) (show 6 * j + 1 < n by omega) (hn2) ?_
    refine r_aload_0 rfl ?_
    refine r_iload_4 rfl ?_
    refine r_push rfl ?_
    refine r_iadd rfl ?_
    refine r_ialdO rfl (hs) (show nI (6 * j) + (2 : Int32) = nI (6 * j + 2) from nI_add _ 2) (show 6 * j + 2 < n by omega) (hn2) ?_
    refine r_ifeqT rfl (b) ?_
    refine r_push rfl ?_
    refine r_aload_3 rfl ?_
    skip
    refine r_invE rfl rfl rfl (by decide) (o_trial st (f (6 * j + 1)) 0) ?_
    rintro v1 h1 ⟨code, rfl, ⟨⟨gg, cy⟩, old⟩, ⟨lf1, o1⟩, E2⟩
    have hs1 := old _ _ hsb hs
    refine r_istore_5 rfl ?_
    refine r_aload_2 rfl ?_
    refine r_aload_0 rfl ?_
    refine r_iload_4 rfl ?_
    refine r_push rfl ?_
    refine r_iadd rfl ?_
    refine r_ialdO rfl (hs1) (show nI (6 * j) + (1 : Int32) = nI (6 * j + 1) from nI_add _ 1) (show 6 * j + 1 < n by omega) (hn2) ?_
    refine r_aload_0 rfl ?_
    refine r_iload_4 rfl ?_
    refine r_push rfl ?_
    refine r_iadd rfl ?_
    refine r_ialdO rfl (hs1) (show nI (6 * j) + (2 : Int32) = nI (6 * j + 2) from nI_add _ 2) (show 6 * j + 2 < n by omega) (hn2) ?_
    refine r_ifeqT rfl (b) ?_
    refine r_push rfl ?_
    skip
    refine r_invvE rfl rfl cy rfl rfl (by decide) E2 ?_
    rintro v2 h2 ⟨w, rfl, fin, ⟨lf, o2, e2⟩, g2, y2, e3⟩
    have tn := c_thr (G := G) y2 e3
    by_cases c0 : code = 0
    · refine r_istore_6 rfl ?_
      refine r_aload_2 rfl ?_
      refine r_invvP_0 rfl (y2) rfl rfl (by decide) (tn) ?_
      refine r_iload_5 rfl ?_
      refine r_iceqT rfl (rfl) ?_
      refine r_iload_5 rfl ?_
      refine r_ifneF rfl (c0) ?_
      refine r_aload_3 rfl ?_
      refine r_push rfl ?_
      refine r_lald rfl (o2) (rfl) (show 0 < 1 by decide) (by first | decide | omega) ?_
      refine r_iload_6 rfl ?_
      refine r_i2l rfl ?_
      refine r_lcmp rfl ?_
      refine r_ifeqT rfl (by rw [e2 c0]; exact lg_self _) ?_
      refine r_goto rfl ?_
      exact kont _ _ _ fin
    · refine r_istore_6 rfl ?_
      refine r_aload_2 rfl ?_
      refine r_invvP_0 rfl (y2) rfl rfl (by decide) (tn) ?_
      refine r_iload_5 rfl ?_
      refine r_iceqT rfl (rfl) ?_
      refine r_iload_5 rfl ?_
      refine r_ifneT rfl (c0) ?_
      refine r_goto rfl ?_
      exact kont _ _ _ fin
  · refine r_aload_1 rfl ?_
    refine r_aload_0 rfl ?_
    refine r_iload_4 rfl ?_
    refine r_push rfl ?_
    refine r_iadd rfl ?_
    refine r_ialdO rfl (hs) (show nI (6 * j) + (1 : Int32) = nI (6 * j + 1) from nI_add _ 1) (show 6 * j + 1 < n by omega) (hn2) ?_
    refine r_aload_0 rfl ?_
    refine r_iload_4 rfl ?_
    refine r_push rfl ?_
    refine r_iadd rfl ?_
    refine r_ialdO rfl (hs) (show nI (6 * j) + (2 : Int32) = nI (6 * j + 2) from nI_add _ 2) (show 6 * j + 2 < n by omega) (hn2) ?_
    refine r_ifeqF rfl (b) ?_
    refine r_push rfl ?_
    refine r_goto rfl ?_
    refine r_aload_3 rfl ?_
    skip
    refine r_invE rfl rfl rfl (by decide) (o_trial st (f (6 * j + 1)) 1) ?_
    rintro v1 h1 ⟨code, rfl, ⟨⟨gg, cy⟩, old⟩, ⟨lf1, o1⟩, E2⟩
    have hs1 := old _ _ hsb hs
    refine r_istore_5 rfl ?_
    refine r_aload_2 rfl ?_
    refine r_aload_0 rfl ?_
    refine r_iload_4 rfl ?_
    refine r_push rfl ?_
    refine r_iadd rfl ?_
    refine r_ialdO rfl (hs1) (show nI (6 * j) + (1 : Int32) = nI (6 * j + 1) from nI_add _ 1) (show 6 * j + 1 < n by omega) (hn2) ?_
    refine r_aload_0 rfl ?_
    refine r_iload_4 rfl ?_
    refine r_push rfl ?_
    refine r_iadd rfl ?_
    refine r_ialdO rfl (hs1) (show nI (6 * j) + (2 : Int32) = nI (6 * j + 2) from nI_add _ 2) (show 6 * j + 2 < n by omega) (hn2) ?_
    refine r_ifeqF rfl (b) ?_
    refine r_push rfl ?_
    refine r_goto rfl ?_
    skip
    refine r_invvE rfl rfl cy rfl rfl (by decide) E2 ?_
    rintro v2 h2 ⟨w, rfl, fin, ⟨lf, o2, e2⟩, g2, y2, e3⟩
    have tn := c_thr (G := G) y2 e3
    by_cases c0 : code = 0
    · refine r_istore_6 rfl ?_
      refine r_aload_2 rfl ?_
      refine r_invvP_0 rfl (y2) rfl rfl (by decide) (tn) ?_
      refine r_iload_5 rfl ?_
      refine r_iceqT rfl (rfl) ?_
      refine r_iload_5 rfl ?_
      refine r_ifneF rfl (c0) ?_
      refine r_aload_3 rfl ?_
      refine r_push rfl ?_
      refine r_lald rfl (o2) (rfl) (show 0 < 1 by decide) (by first | decide | omega) ?_
      refine r_iload_6 rfl ?_
      refine r_i2l rfl ?_
      refine r_lcmp rfl ?_
      refine r_ifeqT rfl (by rw [e2 c0]; exact lg_self _) ?_
      refine r_goto rfl ?_
      exact kont _ _ _ fin
    · refine r_istore_6 rfl ?_
      refine r_aload_2 rfl ?_
      refine r_invvP_0 rfl (y2) rfl rfl (by decide) (tn) ?_
      refine r_iload_5 rfl ?_
      refine r_iceqT rfl (rfl) ?_
      refine r_iload_5 rfl ?_
      refine r_ifneT rfl (c0) ?_
      refine r_goto rfl ?_
      exact kont _ _ _ fin
theorem k_span (hs : h.1 s = some (.inl (100, n, .inl f))) (hsb : s < bs) (hj : 6 * j + 6 ≤ n) (hn : n ≤ 384) (st : STA G bs x h a) (kont : LK G bs x s j h a Q) : Wp G 60 mt_L_law 2323 (LL x s j X5 X6) [] h Q := by
  have hn2 : n < 2 ^ 31 := by omega
  by_cases b : f (6 * j + 2) = 0
  · refine r_aload_1 rfl ?_
    refine r_aload_0 rfl ?_
    refine r_iload_4 rfl ?_
    refine r_push rfl ?_
    refine r_iadd rfl ?_
    refine r_ialdO rfl (hs) (show nI (6 * j) + (1 : Int32) = nI (6 * j + 1) from nI_add _ 1) (show 6 * j + 1 < n by omega) (hn2) ?_
    refine r_aload_0 rfl ?_
    refine r_iload_4 rfl ?_
    refine r_push rfl ?_
    refine r_iadd rfl ?_
    refine r_ialdO rfl (hs) (show nI (6 * j) + (2 : Int32) = nI (6 * j + 2) from nI_add _ 2) (show 6 * j + 2 < n by omega) (hn2) ?_
    refine r_ifeqT rfl (b) ?_
    refine r_push rfl ?_
    refine r_aload_3 rfl ?_
    skip
    refine r_invE rfl rfl rfl (by decide) (o_span st (f (6 * j + 1)) 0) ?_
    rintro v1 h1 ⟨code, rfl, ⟨⟨gg, cy⟩, old⟩, ⟨lf1, o1⟩, E2⟩
    have hs1 := old _ _ hsb hs
    refine r_istore_5 rfl ?_
    refine r_aload_2 rfl ?_
    refine r_aload_0 rfl ?_
    refine r_iload_4 rfl ?_
    refine r_push rfl ?_
    refine r_iadd rfl ?_
    refine r_ialdO rfl (hs1) (show nI (6 * j) + (1 : Int32) = nI (6 * j + 1) from nI_add _ 1) (show 6 * j + 1 < n by omega) (hn2) ?_
    refine r_aload_0 rfl ?_
    refine r_iload_4 rfl ?_
    refine r_push rfl ?_
    refine r_iadd rfl ?_
    refine r_ialdO rfl (hs1) (show nI (6 * j) + (2 : Int32) = nI (6 * j + 2) from nI_add _ 2) (show 6 * j + 2 < n by omega) (hn2) ?_
    refine r_ifeqT rfl (b) ?_
    refine r_push rfl ?_
    skip
    refine r_invvE rfl rfl cy rfl rfl (by decide) E2 ?_
    rintro v2 h2 ⟨w, rfl, fin, ⟨lf, o2, e2⟩, g2, y2, e3⟩
    have tn := c_thr (G := G) y2 e3
    by_cases c0 : code = 0
    · refine r_istore_6 rfl ?_
      refine r_aload_2 rfl ?_
      refine r_invvP_0 rfl (y2) rfl rfl (by decide) (tn) ?_
      refine r_iload_5 rfl ?_
      refine r_iceqT rfl (rfl) ?_
      refine r_iload_5 rfl ?_
      refine r_ifneF rfl (c0) ?_
      refine r_aload_3 rfl ?_
      refine r_push rfl ?_
      refine r_lald rfl (o2) (rfl) (show 0 < 1 by decide) (by first | decide | omega) ?_
      refine r_iload_6 rfl ?_
      refine r_i2l rfl ?_
      refine r_lcmp rfl ?_
      refine r_ifeqT rfl (by rw [e2 c0]; exact lg_self _) ?_
      refine r_goto rfl ?_
      exact kont _ _ _ fin
    · refine r_istore_6 rfl ?_
      refine r_aload_2 rfl ?_
      refine r_invvP_0 rfl (y2) rfl rfl (by decide) (tn) ?_
      refine r_iload_5 rfl ?_
      refine r_iceqT rfl (rfl) ?_
      refine r_iload_5 rfl ?_
      refine r_ifneT rfl (c0) ?_
      refine r_goto rfl ?_
      exact kont _ _ _ fin
  · refine r_aload_1 rfl ?_
    refine r_aload_0 rfl ?_
    refine r_iload_4 rfl ?_
    refine r_push rfl ?_
    refine r_iadd rfl ?_
    refine r_ialdO rfl (hs) (show nI (6 * j) + (1 : Int32) = nI (6 * j + 1) from nI_add _ 1) (show 6 * j + 1 < n by omega) (hn2) ?_
    refine r_aload_0 rfl ?_
    refine r_iload_4 rfl ?_
    refine r_push rfl ?_
    refine r_iadd rfl ?_
    refine r_ialdO rfl (hs) (show nI (6 * j) + (2 : Int32) = nI (6 * j + 2) from nI_add _ 2) (show 6 * j + 2 < n by omega) (hn2) ?_
    refine r_ifeqF rfl (b) ?_
    refine r_push rfl ?_
    refine r_goto rfl ?_
    refine r_aload_3 rfl ?_
    skip
    refine r_invE rfl rfl rfl (by decide) (o_span st (f (6 * j + 1)) 1) ?_
    rintro v1 h1 ⟨code, rfl, ⟨⟨gg, cy⟩, old⟩, ⟨lf1, o1⟩, E2⟩
    have hs1 := old _ _ hsb hs
    refine r_istore_5 rfl ?_
    refine r_aload_2 rfl ?_
    refine r_aload_0 rfl ?_
    refine r_iload_4 rfl ?_
    refine r_push rfl ?_
    refine r_iadd rfl ?_
    refine r_ialdO rfl (hs1) (show nI (6 * j) + (1 : Int32) = nI (6 * j + 1) from nI_add _ 1) (show 6 * j + 1 < n by omega) (hn2) ?_
    refine r_aload_0 rfl ?_
    refine r_iload_4 rfl ?_
    refine r_push rfl ?_
    refine r_iadd rfl ?_
    refine r_ialdO rfl (hs1) (show nI (6 * j) + (2 : Int32) = nI (6 * j + 2) from nI_add _ 2) (show 6 * j + 2 < n by omega) (hn2) ?_
    refine r_ifeqF rfl (b) ?_
    refine r_push rfl ?_
    refine r_goto rfl ?_
    skip
    refine r_invvE rfl rfl cy rfl rfl (by decide) E2 ?_
    rintro v2 h2 ⟨w, rfl, fin, ⟨lf, o2, e2⟩, g2, y2, e3⟩
    have tn := c_thr (G := G) y2 e3
    by_cases c0 : code = 0
    · refine r_istore_6 rfl ?_
      refine r_aload_2 rfl ?_
      refine r_invvP_0 rfl (y2) rfl rfl (by decide) (tn) ?_
      refine r_iload_5 rfl ?_
      refine r_iceqT rfl (rfl) ?_
      refine r_iload_5 rfl ?_
      refine r_ifneF rfl (c0) ?_
      refine r_aload_3 rfl ?_
      refine r_push rfl ?_
      refine r_lald rfl (o2) (rfl) (show 0 < 1 by decide) (by first | decide | omega) ?_
      refine r_iload_6 rfl ?_
      refine r_i2l rfl ?_
      refine r_lcmp rfl ?_
      refine r_ifeqT rfl (by rw [e2 c0]; exact lg_self _) ?_
      refine r_goto rfl ?_
      exact kont _ _ _ fin
    · refine r_istore_6 rfl ?_
      refine r_aload_2 rfl ?_
      refine r_invvP_0 rfl (y2) rfl rfl (by decide) (tn) ?_
      refine r_iload_5 rfl ?_
      refine r_iceqT rfl (rfl) ?_
      refine r_iload_5 rfl ?_
      refine r_ifneT rfl (c0) ?_
      refine r_goto rfl ?_
      exact kont _ _ _ fin
theorem k_led (hs : h.1 s = some (.inl (100, n, .inl f))) (hsb : s < bs) (hj : 6 * j + 6 ≤ n) (hn : n ≤ 384) (st : STA G bs x h a) (kont : LK G bs x s j h a Q) : Wp G 60 mt_L_law 2407 (LL x s j X5 X6) [] h Q := by
  have hn2 : n < 2 ^ 31 := by omega
  by_cases b : f (6 * j + 2) = 0
  · refine r_aload_1 rfl ?_
    refine r_aload_0 rfl ?_
    refine r_iload_4 rfl ?_
    refine r_push rfl ?_
    refine r_iadd rfl ?_
    refine r_ialdO rfl (hs) (show nI (6 * j) + (1 : Int32) = nI (6 * j + 1) from nI_add _ 1) (show 6 * j + 1 < n by omega) (hn2) ?_
    refine r_aload_0 rfl ?_
    refine r_iload_4 rfl ?_
    refine r_push rfl ?_
    refine r_iadd rfl ?_
    refine r_ialdO rfl (hs) (show nI (6 * j) + (2 : Int32) = nI (6 * j + 2) from nI_add _ 2) (show 6 * j + 2 < n by omega) (hn2) ?_
    refine r_ifeqT rfl (b) ?_
    refine r_push rfl ?_
    refine r_aload_3 rfl ?_
    skip
    refine r_invE rfl rfl rfl (by decide) (o_led st (f (6 * j + 1)) 0) ?_
    rintro v1 h1 ⟨code, rfl, ⟨⟨gg, cy⟩, old⟩, ⟨lf1, o1⟩, E2⟩
    have hs1 := old _ _ hsb hs
    refine r_istore_5 rfl ?_
    refine r_aload_2 rfl ?_
    refine r_aload_0 rfl ?_
    refine r_iload_4 rfl ?_
    refine r_push rfl ?_
    refine r_iadd rfl ?_
    refine r_ialdO rfl (hs1) (show nI (6 * j) + (1 : Int32) = nI (6 * j + 1) from nI_add _ 1) (show 6 * j + 1 < n by omega) (hn2) ?_
    refine r_aload_0 rfl ?_
    refine r_iload_4 rfl ?_
    refine r_push rfl ?_
    refine r_iadd rfl ?_
    refine r_ialdO rfl (hs1) (show nI (6 * j) + (2 : Int32) = nI (6 * j + 2) from nI_add _ 2) (show 6 * j + 2 < n by omega) (hn2) ?_
    refine r_ifeqT rfl (b) ?_
    refine r_push rfl ?_
    skip
    refine r_invvE rfl rfl cy rfl rfl (by decide) E2 ?_
    rintro v2 h2 ⟨w, rfl, fin, ⟨lf, o2, e2⟩, g2, y2, e3⟩
    have tn := c_thr (G := G) y2 e3
    by_cases c0 : code = 0
    · refine r_istore_6 rfl ?_
      refine r_aload_2 rfl ?_
      refine r_invvP_0 rfl (y2) rfl rfl (by decide) (tn) ?_
      refine r_iload_5 rfl ?_
      refine r_iceqT rfl (rfl) ?_
      refine r_iload_5 rfl ?_
      refine r_ifneF rfl (c0) ?_
      refine r_aload_3 rfl ?_
      refine r_push rfl ?_
      refine r_lald rfl (o2) (rfl) (show 0 < 1 by decide) (by first | decide | omega) ?_
      refine r_iload_6 rfl ?_
      refine r_i2l rfl ?_
      refine r_lcmp rfl ?_
      refine r_ifeqT rfl (by rw [e2 c0]; exact lg_self _) ?_
      refine r_goto rfl ?_
      exact kont _ _ _ fin
    · refine r_istore_6 rfl ?_
      refine r_aload_2 rfl ?_
      refine r_invvP_0 rfl (y2) rfl rfl (by decide) (tn) ?_
      refine r_iload_5 rfl ?_
      refine r_iceqT rfl (rfl) ?_
      refine r_iload_5 rfl ?_
      refine r_ifneT rfl (c0) ?_
      refine r_goto rfl ?_
      exact kont _ _ _ fin
  · refine r_aload_1 rfl ?_
    refine r_aload_0 rfl ?_
    refine r_iload_4 rfl ?_
    refine r_push rfl ?_
    refine r_iadd rfl ?_
    refine r_ialdO rfl (hs) (show nI (6 * j) + (1 : Int32) = nI (6 * j + 1) from nI_add _ 1) (show 6 * j + 1 < n by omega) (hn2) ?_
    refine r_aload_0 rfl ?_
    refine r_iload_4 rfl ?_
    refine r_push rfl ?_
    refine r_iadd rfl ?_
    refine r_ialdO rfl (hs) (show nI (6 * j) + (2 : Int32) = nI (6 * j + 2) from nI_add _ 2) (show 6 * j + 2 < n by omega) (hn2) ?_
    refine r_ifeqF rfl (b) ?_
    refine r_push rfl ?_
    refine r_goto rfl ?_
    refine r_aload_3 rfl ?_
    skip
    refine r_invE rfl rfl rfl (by decide) (o_led st (f (6 * j + 1)) 1) ?_
    rintro v1 h1 ⟨code, rfl, ⟨⟨gg, cy⟩, old⟩, ⟨lf1, o1⟩, E2⟩
    have hs1 := old _ _ hsb hs
    refine r_istore_5 rfl ?_
    refine r_aload_2 rfl ?_
    refine r_aload_0 rfl ?_
    refine r_iload_4 rfl ?_
    refine r_push rfl ?_
    refine r_iadd rfl ?_
    refine r_ialdO rfl (hs1) (show nI (6 * j) + (1 : Int32) = nI (6 * j + 1) from nI_add _ 1) (show 6 * j + 1 < n by omega) (hn2) ?_
    refine r_aload_0 rfl ?_
    refine r_iload_4 rfl ?_
    refine r_push rfl ?_
    refine r_iadd rfl ?_
    refine r_ialdO rfl (hs1) (show nI (6 * j) + (2 : Int32) = nI (6 * j + 2) from nI_add _ 2) (show 6 * j + 2 < n by omega) (hn2) ?_
    refine r_ifeqF rfl (b) ?_
    refine r_push rfl ?_
    refine r_goto rfl ?_
    skip
    refine r_invvE rfl rfl cy rfl rfl (by decide) E2 ?_
    rintro v2 h2 ⟨w, rfl, fin, ⟨lf, o2, e2⟩, g2, y2, e3⟩
    have tn := c_thr (G := G) y2 e3
    by_cases c0 : code = 0
    · refine r_istore_6 rfl ?_
      refine r_aload_2 rfl ?_
      refine r_invvP_0 rfl (y2) rfl rfl (by decide) (tn) ?_
      refine r_iload_5 rfl ?_
      refine r_iceqT rfl (rfl) ?_
      refine r_iload_5 rfl ?_
      refine r_ifneF rfl (c0) ?_
      refine r_aload_3 rfl ?_
      refine r_push rfl ?_
      refine r_lald rfl (o2) (rfl) (show 0 < 1 by decide) (by first | decide | omega) ?_
      refine r_iload_6 rfl ?_
      refine r_i2l rfl ?_
      refine r_lcmp rfl ?_
      refine r_ifeqT rfl (by rw [e2 c0]; exact lg_self _) ?_
      refine r_goto rfl ?_
      exact kont _ _ _ fin
    · refine r_istore_6 rfl ?_
      refine r_aload_2 rfl ?_
      refine r_invvP_0 rfl (y2) rfl rfl (by decide) (tn) ?_
      refine r_iload_5 rfl ?_
      refine r_iceqT rfl (rfl) ?_
      refine r_iload_5 rfl ?_
      refine r_ifneT rfl (c0) ?_
      refine r_goto rfl ?_
      exact kont _ _ _ fin
theorem k_log (hs : h.1 s = some (.inl (100, n, .inl f))) (hsb : s < bs) (hj : 6 * j + 6 ≤ n) (hn : n ≤ 384) (st : STA G bs x h a) (kont : LK G bs x s j h a Q) : Wp G 60 mt_L_law 2491 (LL x s j X5 X6) [] h Q := by
  have hn2 : n < 2 ^ 31 := by omega
  refine r_aload_1 rfl ?_
  refine r_aload_0 rfl ?_
  refine r_iload_4 rfl ?_
  refine r_push rfl ?_
  refine r_iadd rfl ?_
  refine r_ialdO rfl (hs) (show nI (6 * j) + (1 : Int32) = nI (6 * j + 1) from nI_add _ 1) (show 6 * j + 1 < n by omega) (hn2) ?_
  refine r_aload_0 rfl ?_
  refine r_iload_4 rfl ?_
  refine r_push rfl ?_
  refine r_iadd rfl ?_
  refine r_ialdO rfl (hs) (show nI (6 * j) + (2 : Int32) = nI (6 * j + 2) from nI_add _ 2) (show 6 * j + 2 < n by omega) (hn2) ?_
  refine r_aload_3 rfl ?_
  skip
  refine r_invE rfl rfl rfl (by decide) (o_log st (f (6 * j + 1)) (f (6 * j + 2))) ?_
  rintro v1 h1 ⟨code, rfl, ⟨⟨gg, cy⟩, old⟩, ⟨lf1, o1⟩, E2⟩
  have hs1 := old _ _ hsb hs
  refine r_istore_5 rfl ?_
  refine r_aload_2 rfl ?_
  refine r_aload_0 rfl ?_
  refine r_iload_4 rfl ?_
  refine r_push rfl ?_
  refine r_iadd rfl ?_
  refine r_ialdO rfl (hs1) (show nI (6 * j) + (1 : Int32) = nI (6 * j + 1) from nI_add _ 1) (show 6 * j + 1 < n by omega) (hn2) ?_
  refine r_aload_0 rfl ?_
  refine r_iload_4 rfl ?_
  refine r_push rfl ?_
  refine r_iadd rfl ?_
  refine r_ialdO rfl (hs1) (show nI (6 * j) + (2 : Int32) = nI (6 * j + 2) from nI_add _ 2) (show 6 * j + 2 < n by omega) (hn2) ?_
  skip
  refine r_invvE rfl rfl cy rfl rfl (by decide) E2 ?_
  rintro v2 h2 ⟨w, rfl, fin, ⟨lf, o2, e2⟩, g2, y2, e3⟩
  have tn := c_thr (G := G) y2 e3
  by_cases c0 : code = 0
  · refine r_istore_6 rfl ?_
    refine r_aload_2 rfl ?_
    refine r_invvP_0 rfl (y2) rfl rfl (by decide) (tn) ?_
    refine r_iload_5 rfl ?_
    refine r_iceqT rfl (rfl) ?_
    refine r_iload_5 rfl ?_
    refine r_ifneF rfl (c0) ?_
    refine r_aload_3 rfl ?_
    refine r_push rfl ?_
    refine r_lald rfl (o2) (rfl) (show 0 < 1 by decide) (by first | decide | omega) ?_
    refine r_iload_6 rfl ?_
    refine r_i2l rfl ?_
    refine r_lcmp rfl ?_
    refine r_ifeqT rfl (by rw [e2 c0]; exact lg_self _) ?_
    refine r_goto rfl ?_
    exact kont _ _ _ fin
  · refine r_istore_6 rfl ?_
    refine r_aload_2 rfl ?_
    refine r_invvP_0 rfl (y2) rfl rfl (by decide) (tn) ?_
    refine r_iload_5 rfl ?_
    refine r_iceqT rfl (rfl) ?_
    refine r_iload_5 rfl ?_
    refine r_ifneT rfl (c0) ?_
    refine r_goto rfl ?_
    exact kont _ _ _ fin
theorem k_seed (hs : h.1 s = some (.inl (100, n, .inl f))) (hsb : s < bs) (hj : 6 * j + 6 ≤ n) (hn : n ≤ 384) (st : STA G bs x h a) (kont : LK G bs x s j h a Q) : Wp G 60 mt_L_law 2559 (LL x s j X5 X6) [] h Q := by
  have hn2 : n < 2 ^ 31 := by omega
  have ox := st_o st
  refine r_aload_1 rfl ?_
  refine r_aload_0 rfl ?_
  refine r_iload_4 rfl ?_
  refine r_push rfl ?_
  refine r_iadd rfl ?_
  refine r_ialdO rfl (hs) (show nI (6 * j) + (1 : Int32) = nI (6 * j + 1) from nI_add _ 1) (show 6 * j + 1 < n by omega) (hn2) ?_
  skip
  obtain ⟨w, E1⟩ := o_seed st (f (6 * j + 1))
  refine r_invvE rfl rfl ox rfl rfl (by decide) E1 ?_
  rintro v1 h1 ⟨rfl, ⟨⟨gg, cy⟩, old⟩, E2⟩
  have hs1 := old _ _ hsb hs
  refine r_aload_2 rfl ?_
  refine r_aload_0 rfl ?_
  refine r_iload_4 rfl ?_
  refine r_push rfl ?_
  refine r_iadd rfl ?_
  refine r_ialdO rfl (hs1) (show nI (6 * j) + (1 : Int32) = nI (6 * j + 1) from nI_add _ 1) (show 6 * j + 1 < n by omega) (hn2) ?_
  skip
  refine r_invvE rfl rfl cy rfl rfl (by decide) E2 ?_
  rintro v2 h2 ⟨rfl, fin⟩
  refine r_iceqT rfl (rfl) ?_
  exact kont _ _ _ fin
theorem k_undo (hs : h.1 s = some (.inl (100, n, .inl f))) (hsb : s < bs) (hj : 6 * j + 6 ≤ n) (hn : n ≤ 384) (st : STA G bs x h a) (kont : LK G bs x s j h a Q) : Wp G 60 mt_L_law 2584 (LL x s j X5 X6) [] h Q := by
  have hn2 : n < 2 ^ 31 := by omega
  have ox := st_o st
  refine r_aload_1 rfl ?_
  skip
  obtain ⟨w, E1⟩ := o_undo st 
  refine r_invvE rfl rfl ox rfl rfl (by decide) E1 ?_
  rintro v1 h1 ⟨rfl, ⟨⟨gg, cy⟩, old⟩, E2⟩
  have hs1 := old _ _ hsb hs
  refine r_aload_2 rfl ?_
  skip
  refine r_invvE rfl rfl cy rfl rfl (by decide) E2 ?_
  rintro v2 h2 ⟨rfl, fin⟩
  refine r_iceqT rfl (rfl) ?_
  exact kont _ _ _ fin
theorem k_image (hs : h.1 s = some (.inl (100, n, .inl f))) (hsb : s < bs) (hj : 6 * j + 6 ≤ n) (hn : n ≤ 384) (st : STA G bs x h a) (kont : LK G bs x s j h a Q) : Wp G 60 mt_L_law 2597 (LL x s j X5 X6) [] h Q := by
  have hn2 : n < 2 ^ 31 := by omega
  have ox := st_o st
  refine r_aload_1 rfl ?_
  skip
  refine r_invvF rfl rfl ox rfl rfl (by decide) (o_image st) ?_
  rintro h1 ⟨⟨⟨gg, cy⟩, old⟩, E2⟩
  refine r_aload_2 rfl ?_
  skip
  refine r_invvF rfl rfl cy rfl rfl (by decide) E2 ?_
  intro h2 fin
  refine r_goto rfl ?_
  exact kont _ _ _ fin
theorem k_back (hs : h.1 s = some (.inl (100, n, .inl f))) (hsb : s < bs) (hj : 6 * j + 6 ≤ n) (hn : n ≤ 384) (st : STA G bs x h a) (kont : LK G bs x s j h a Q) : Wp G 60 mt_L_law 2608 (LL x s j X5 X6) [] h Q := by
  have hn2 : n < 2 ^ 31 := by omega
  have ox := st_o st
  refine r_aload_1 rfl ?_
  skip
  obtain ⟨w, E1⟩ := o_back st 
  refine r_invvE rfl rfl ox rfl rfl (by decide) E1 ?_
  rintro v1 h1 ⟨rfl, ⟨⟨gg, cy⟩, old⟩, E2⟩
  have hs1 := old _ _ hsb hs
  refine r_aload_2 rfl ?_
  skip
  refine r_invvE rfl rfl cy rfl rfl (by decide) E2 ?_
  rintro v2 h2 ⟨rfl, fin⟩
  refine r_iceqT rfl (rfl) ?_
  exact kont _ _ _ fin
theorem k_count (hs : h.1 s = some (.inl (100, n, .inl f))) (hsb : s < bs) (hj : 6 * j + 6 ≤ n) (hn : n ≤ 384) (st : STA G bs x h a) (kont : LK G bs x s j h a Q) : Wp G 60 mt_L_law 2621 (LL x s j X5 X6) [] h Q := by
  have hn2 : n < 2 ^ 31 := by omega
  have ox := st_o st
  refine r_aload_1 rfl ?_
  refine r_aload_0 rfl ?_
  refine r_iload_4 rfl ?_
  refine r_push rfl ?_
  refine r_iadd rfl ?_
  refine r_ialdO rfl (hs) (show nI (6 * j) + (1 : Int32) = nI (6 * j + 1) from nI_add _ 1) (show 6 * j + 1 < n by omega) (hn2) ?_
  skip
  obtain ⟨w, E1⟩ := o_count st (f (6 * j + 1))
  refine r_invvE rfl rfl ox rfl rfl (by decide) E1 ?_
  rintro v1 h1 ⟨rfl, ⟨⟨gg, cy⟩, old⟩, E2⟩
  have hs1 := old _ _ hsb hs
  refine r_aload_2 rfl ?_
  refine r_aload_0 rfl ?_
  refine r_iload_4 rfl ?_
  refine r_push rfl ?_
  refine r_iadd rfl ?_
  refine r_ialdO rfl (hs1) (show nI (6 * j) + (1 : Int32) = nI (6 * j + 1) from nI_add _ 1) (show 6 * j + 1 < n by omega) (hn2) ?_
  skip
  refine r_invvE rfl rfl cy rfl rfl (by decide) E2 ?_
  rintro v2 h2 ⟨rfl, fin⟩
  refine r_iceqT rfl (rfl) ?_
  exact kont _ _ _ fin
end
