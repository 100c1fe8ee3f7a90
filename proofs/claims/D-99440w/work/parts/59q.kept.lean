/-! WHAT IS KEPT in the model: seed, undo, image, back -/
set_option maxRecDepth 100000
section
variable {G : am_G} {h : am_H} {y : Nat} {m g kp ac : Nat → Int32}
theorem c_ySeed (q : MM h y g m) (n : Int32) : Uc G 0 m_X6_seed [.ref y, .int n] h (.int (m 8)) (am_set (mh h y (upd g 0 (nI 0))) (y + 1) (.inl (0, 769, .inl (upd m 8 n)))) := by
  have m3 := q.thr (nI 0)
  have o := q.1; have o3 := m3.1; have r3 := m3.2
  refine wc_in mt_X6_seed rfl (L := [.ref y, .int n, am_un]) rfl ?_
  refine r_aload_0 rfl ?_
  refine r_push rfl ?_
  refine r_puti rfl (o) rfl ?_
  rw [mo_0]
  refine r_aload_0 rfl ?_
  refine r_getf rfl (o3) (by rfl) ?_
  refine r_push rfl ?_
  refine r_iald rfl (r3) (show (8 : Int32) = nI 8 from rfl) (by first | assumption | omega) (by first | decide | omega) ?_
  refine r_istore_2 rfl ?_
  refine r_aload_0 rfl ?_
  refine r_getf rfl (o3) (by rfl) ?_
  refine r_push rfl ?_
  refine r_iload_1 rfl ?_
  refine r_iast rfl (r3) (show (8 : Int32) = nI 8 from rfl) (by first | assumption | omega) (by first | decide | omega) ?_
  refine r_iload_2 rfl ?_
  refine r_iret rfl ?_
  rfl
theorem c_yImage (q : MM h y g m) (qk : h.1 (y + 2) = some (.inl (0, 769, .inl kp))) : Un G 0 m_X6_image [.ref y] h (mh (am_set h (y + 2) (.inl (0, 769, .inl (cpN m kp 0 0 769)))) y (upd (upd g 0 (nI 0)) 3 1)) := by
  have m3 := q.thr (nI 0)
  have o := q.1; have o3 := m3.1; have r3 := m3.2
  refine wc_in mt_X6_image rfl (L := [.ref y, am_un]) rfl ?_
  refine r_aload_0 rfl ?_
  refine r_push rfl ?_
  refine r_puti rfl o rfl ?_
  rw [mo_0]
  refine r_push rfl ?_
  refine r_istore_1 rfl ?_
  have k3 : (mh h y (upd g 0 (nI 0))).1 (y + 2) = some (.inl (0, 769, .inl kp)) := am_set_k qk (by omega)
  refine wp_forHK 769 (fun j => [.ref y, .int (nI j)]) (fun j h' => MM h' y (upd g 0 (nI 0)) m ∧ h'.1 (y + 2) = some (.inl (0, 769, .inl (cpN m kp 0 0 j))) ∧ am_set (mh h y (upd g 0 (nI 0))) (y + 2) (.inl (0, 769, .inl (cpN m kp 0 0 j))) = h') (fun j h' hj hK kont => ?_) (fun h' hK => ?_) ⟨m3, k3, am_set_id k3⟩
  · obtain ⟨mm, o4, e⟩ := hK
    have o := mm.1; have o1 := mm.2
    refine r_iload_1 rfl ?_
    refine r_push rfl ?_
    refine r_icgeF rfl (by rw [show (769 : Int32) = nI 769 from rfl]; exact nI_lt hj (by decide)) ?_
    refine r_aload_0 rfl ?_
    refine r_getf rfl (by assumption) (by rfl) ?_
    refine r_iload_1 rfl ?_
    refine r_aload_0 rfl ?_
    refine r_getf rfl (by assumption) (by rfl) ?_
    refine r_iload_1 rfl ?_
    refine r_iald rfl (o1) (by rfl) (by first | assumption | omega) (by first | decide | omega) ?_
    refine r_iast rfl (o4) (by rfl) (by first | assumption | omega) (by first | decide | omega) ?_
    refine r_iinc_1 rfl ?_
    refine r_goto rfl ?_
    rw [nI_1]
    refine kont _ ⟨⟨am_set_k mm.1 (by omega), am_set_k mm.2 (by omega)⟩, ?_, ?_⟩
    · rw [am_set_at, cpN, Nat.zero_add]
    · rw [← e, am_set_set, cpN, Nat.zero_add]
  · obtain ⟨mm, o4, e⟩ := hK
    have o := mm.1
    refine r_iload_1 rfl ?_
    refine r_push rfl ?_
    refine r_icgeT rfl (by decide) ?_
    refine r_aload_0 rfl ?_
    refine r_push rfl ?_
    refine r_putz rfl (o) (Or.inr rfl) rfl ?_
    refine r_vret rfl ?_
    rw [← e]
    unfold mh
    rw [am_set_comm (a := y) (c := y + 2) (by omega), am_set_set]
    rfl
theorem c_yBack (q : MM h y g m) (qk : h.1 (y + 2) = some (.inl (0, 769, .inl kp))) {hi : Bool} (e3 : g 3 = bI hi) : Uc G 0 m_X6_back [.ref y] h (.int (bI hi)) (if hi = true then mh (am_set h (y + 1) (.inl (0, 769, .inl (cpN kp m 0 0 769)))) y (upd (upd g 0 (nI 0)) 6 0) else mh h y (upd g 0 (nI 0))) := by
  have m3 := q.thr (nI 0)
  have o := q.1; have o3 := m3.1; have r3 := m3.2
  have eg3 : upd g 0 (nI 0) 3 = bI hi := e3
  refine wc_in mt_X6_back rfl (L := [.ref y, am_un]) rfl ?_
  refine r_aload_0 rfl ?_
  refine r_push rfl ?_
  refine r_puti rfl o rfl ?_
  rw [mo_0]
  refine r_aload_0 rfl ?_
  refine r_getf rfl o3 rfl ?_
  cases hi with
  | false =>
    refine r_ifneF rfl eg3 ?_
    refine r_push rfl ?_
    refine r_zret rfl (by first | decide | assumption) ?_
    rfl
  | true =>
    refine r_ifneT rfl (by rw [eg3]; decide) ?_
    refine r_push rfl ?_
    refine r_istore_1 rfl ?_
    have k3 : (mh h y (upd g 0 (nI 0))).1 (y + 2) = some (.inl (0, 769, .inl kp)) := am_set_k qk (by omega)
    refine wp_forHK 769 (fun j => [.ref y, .int (nI j)]) (fun j h' => MM h' y (upd g 0 (nI 0)) (cpN kp m 0 0 j) ∧ h'.1 (y + 2) = some (.inl (0, 769, .inl kp)) ∧ am_set (mh h y (upd g 0 (nI 0))) (y + 1) (.inl (0, 769, .inl (cpN kp m 0 0 j))) = h') (fun j h' hj hK kont => ?_) (fun h' hK => ?_) ⟨m3, k3, am_set_id r3⟩
    · obtain ⟨mm, o4, e⟩ := hK
      have o := mm.1; have o1 := mm.2
      refine r_iload_1 rfl ?_
      refine r_push rfl ?_
      refine r_icgeF rfl (by rw [show (769 : Int32) = nI 769 from rfl]; exact nI_lt hj (by decide)) ?_
      refine r_aload_0 rfl ?_
      refine r_getf rfl (by assumption) (by rfl) ?_
      refine r_iload_1 rfl ?_
      refine r_aload_0 rfl ?_
      refine r_getf rfl (by assumption) (by rfl) ?_
      refine r_iload_1 rfl ?_
      refine r_iald rfl (o4) (by rfl) (by first | assumption | omega) (by first | decide | omega) ?_
      refine r_iast rfl (o1) (by rfl) (by first | assumption | omega) (by first | decide | omega) ?_
      refine r_iinc_1 rfl ?_
      refine r_goto rfl ?_
      rw [nI_1]
      refine kont _ ⟨⟨am_set_k mm.1 (by omega), ?_⟩, am_set_k o4 (by omega), ?_⟩
      · rw [am_set_at, cpN, Nat.zero_add]
      · rw [← e, am_set_set, cpN, Nat.zero_add]
    · obtain ⟨mm, o4, e⟩ := hK
      have o := mm.1
      refine r_iload_1 rfl ?_
      refine r_push rfl ?_
      refine r_icgeT rfl (by decide) ?_
      refine r_aload_0 rfl ?_
      refine r_push rfl ?_
      refine r_puti rfl (o) rfl ?_
      refine r_push rfl ?_
      refine r_zret rfl (by first | decide | assumption) ?_
      rw [← e, if_pos rfl]
      unfold mh
      rw [am_set_comm (a := y) (c := y + 1) (by omega), am_set_set]
      rfl
theorem c_yUndo (q : MM h y g m) (qa : h.1 (y + 4) = some (.inl (0, 4428, .inl ac))) {k : Nat} (e6 : g 6 = nI k) (hk : k ≤ 12) : Uc G 0 m_X6_undo [.ref y] h (.int (bI (decide (k ≠ 0)))) (if k = 0 then mh h y (upd g 0 (nI 0)) else mh (am_set h (y + 1) (.inl (0, 769, .inl (cpN ac m (369 * (k - 1)) 0 369)))) y (upd (upd g 0 (nI 0)) 6 (nI (k - 1)))) := by
  have m3 := q.thr (nI 0)
  have o := q.1; have o3 := m3.1; have r3 := m3.2
  have eg6 : upd g 0 (nI 0) 6 = nI k := e6
  refine wc_in mt_X6_undo rfl (L := [.ref y, am_un]) rfl ?_
  refine r_aload_0 rfl ?_
  refine r_push rfl ?_
  refine r_puti rfl o rfl ?_
  rw [mo_0]
  refine r_aload_0 rfl ?_
  refine r_getf rfl o3 rfl ?_
  by_cases c : k = 0
  · subst c
    refine r_ifneF rfl eg6 ?_
    refine r_push rfl ?_
    refine r_zret rfl (by first | decide | assumption) ?_
    rfl
  · refine r_ifneT rfl (by rw [eg6]; exact fun z => c (nI_inj (by omega) (by decide) z)) ?_
    refine r_aload_0 rfl ?_
    refine r_dupR rfl ?_
    refine r_getf rfl o3 rfl ?_
    rw [eg6]
    refine r_push rfl ?_
    refine r_isub rfl ?_
    rw [show (1 : Int32) = nI 1 from rfl, nI_sub (by omega)]
    refine r_puti rfl o3 rfl ?_
    rw [mo_6, am_set_set]
    refine r_push rfl ?_
    refine r_istore_1 rfl ?_
    have mm0 : MM (mh h y (upd (upd g 0 (nI 0)) 6 (nI (k - 1)))) y (upd (upd g 0 (nI 0)) 6 (nI (k - 1))) m := ⟨am_set_at, am_set_k q.2 (by omega)⟩
    have k3 : (mh h y (upd (upd g 0 (nI 0)) 6 (nI (k - 1)))).1 (y + 4) = some (.inl (0, 4428, .inl ac)) := am_set_k qa (by omega)
    refine wp_forHK 369 (fun j => [.ref y, .int (nI j)]) (fun j h' => MM h' y (upd (upd g 0 (nI 0)) 6 (nI (k - 1))) (cpN ac m (369 * (k - 1)) 0 j) ∧ h'.1 (y + 4) = some (.inl (0, 4428, .inl ac)) ∧ am_set (mh h y (upd (upd g 0 (nI 0)) 6 (nI (k - 1)))) (y + 1) (.inl (0, 769, .inl (cpN ac m (369 * (k - 1)) 0 j))) = h') (fun j h' hj hK kont => ?_) (fun h' hK => ?_) ⟨mm0, k3, am_set_id mm0.2⟩
    · obtain ⟨mm, o4, e⟩ := hK
      have o := mm.1; have o1 := mm.2
      refine r_iload_1 rfl ?_
      refine r_push rfl ?_
      refine r_icgeF rfl (by rw [show (369 : Int32) = nI 369 from rfl]; exact nI_lt hj (by decide)) ?_
      refine r_aload_0 rfl ?_
      refine r_getf rfl (by assumption) (by rfl) ?_
      refine r_iload_1 rfl ?_
      refine r_aload_0 rfl ?_
      refine r_getf rfl (by assumption) (by rfl) ?_
      refine r_push rfl ?_
      refine r_aload_0 rfl ?_
      refine r_getf rfl (by assumption) (by rfl) ?_
      refine r_imul rfl ?_
      refine r_iload_1 rfl ?_
      refine r_iadd rfl ?_
      refine r_iald rfl (o4) (show (369 : Int32) * upd (upd g 0 (nI 0)) 6 (nI (k - 1)) 6 + nI j = nI (369 * (k - 1) + j) by rw [upd_eq, show (369 : Int32) = nI 369 from rfl, nI_mul, nI_add]) (by first | assumption | omega) (by first | decide | omega) ?_
      refine r_iast rfl (o1) (by rfl) (by first | assumption | omega) (by first | decide | omega) ?_
      refine r_iinc_1 rfl ?_
      refine r_goto rfl ?_
      rw [nI_1]
      refine kont _ ⟨⟨am_set_k mm.1 (by omega), ?_⟩, am_set_k o4 (by omega), ?_⟩
      · rw [am_set_at, cpN, Nat.zero_add]
      · rw [← e, am_set_set, cpN, Nat.zero_add]
    · obtain ⟨mm, o4, e⟩ := hK
      refine r_iload_1 rfl ?_
      refine r_push rfl ?_
      refine r_icgeT rfl (by decide) ?_
      refine r_push rfl ?_
      refine r_zret rfl (by first | decide | assumption) ?_
      rw [← e, if_neg c, decide_eq_true c]
      unfold mh
      rw [am_set_comm (a := y) (c := y + 1) (by omega)]
      rfl
end
