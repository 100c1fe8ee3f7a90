/-! THE TAPE of the model: feed, end, fault -/
set_option maxRecDepth 100000
def fdV (a b c d e : Int32) (j : Nat) : Int32 := if j < 4 then a else if j < 8 then b else if j < 12 then c else if j < 16 then d else e
/-- byte j of five numbers -/
def fdB (a b c d e : Int32) (j : Nat) : Int32 := ((fdV a b c d e j).toUInt32 >>> (((24 : Int32) - 8 * rmF (nI j) 4).toUInt32 &&& Int32.toUInt32 31)).toInt32 &&& 255
def feN (T : Nat → Int32) (len : Nat) (f : Nat → Int32) : Nat → Nat → Int32
  | 0 => T
  | j + 1 => upd (feN T len f j) (len + j) (f j)
section
variable {G : am_G} {h : am_H} {y : Nat} {m g T : Nat → Int32}
theorem c_yFault (q : MM h y g m) : Uc G 0 m_X6_fault [.ref y] h (.int (g 12)) (mh h y (upd g 0 (nI 0))) := by
  have o := q.1; have o3 := (q.thr (nI 0)).1
  refine wc_in mt_X6_fault rfl (L := [.ref y]) rfl ?_
  refine r_aload_0 rfl ?_
  refine r_push rfl ?_
  refine r_puti rfl (o) rfl ?_
  rw [mo_0]
  refine r_aload_0 rfl ?_
  refine r_getf rfl (o3) (by rfl) ?_
  refine r_iret rfl ?_
  rfl
theorem c_yThrown (q : MM h y g m) : Vc G 0 m_X6_thrown [.ref y] h (.int (g 0)) := by
  have o := q.1
  refine wc_in mt_X6_thrown rfl (L := [.ref y]) rfl ?_
  refine r_aload_0 rfl ?_
  refine r_getf rfl (by assumption) (by rfl) ?_
  refine r_iret rfl ?_
  rfl
theorem c_yEnd (q : MM h y g m) (n : Int32) : Uc G 1 m_X6_end [.ref y, .int n] h (.int (bI (inF n 0 (g 8)))) (if inF n 0 (g 8) = true then mh h y (upd (upd g 0 (nI 0)) 8 n) else mh h y (upd g 0 (nI 0))) := by
  have o := q.1; have o3 := (q.thr (nI 0)).1
  have e8 : upd g 0 (nI 0) 8 = g 8 := rfl
  refine wc_in mt_X6_end rfl (L := [.ref y, .int n]) rfl ?_
  cases e : inF n 0 (g 8) with
  | false =>
    refine r_aload_0 rfl ?_
    refine r_push rfl ?_
    refine r_puti rfl (o) rfl ?_
    rw [mo_0]
    refine r_iload_1 rfl ?_
    refine r_push rfl ?_
    refine r_aload_0 rfl ?_
    refine r_getf rfl (o3) (by rfl) ?_
    refine r_invP_3 rfl rfl (by decide) (c_isIn _ _ _) ?_
    refine r_ifneF rfl (by rw [e8, e]; rfl) ?_
    refine r_push rfl ?_
    refine r_zret rfl (by first | decide | assumption) ?_
    rfl
  | true =>
    refine r_aload_0 rfl ?_
    refine r_push rfl ?_
    refine r_puti rfl (o) rfl ?_
    rw [mo_0]
    refine r_iload_1 rfl ?_
    refine r_push rfl ?_
    refine r_aload_0 rfl ?_
    refine r_getf rfl (o3) (by rfl) ?_
    refine r_invP_3 rfl rfl (by decide) (c_isIn _ _ _) ?_
    refine r_ifneT rfl (by rw [e8, e]; decide) ?_
    refine r_aload_0 rfl ?_
    refine r_iload_1 rfl ?_
    refine r_puti rfl (o3) rfl ?_
    refine r_push rfl ?_
    refine r_zret rfl (by first | decide | assumption) ?_
    rw [if_pos rfl, mo_8, am_set_set]
    rfl
theorem c_yFeed (q : MM h y g m) (qt : h.1 (y + 5) = some (.inl (0, 400, .inl T))) {len : Nat} (e8 : g 8 = nI len) (hl : len ≤ 400) (a b c d e : Int32) : Uc G 1 m_X6_feed [.ref y, .int a, .int b, .int c, .int d, .int e] h (.int (if 400 < len + 20 then -1 else nI (len + 20))) (if 400 < len + 20 then mh h y (upd g 0 (nI 0)) else mh (am_set h (y + 5) (.inl (0, 400, .inl (feN T len (fdB a b c d e) 20)))) y (upd (upd g 0 (nI 0)) 8 (nI (len + 20)))) := by
  have m3 := q.thr (nI 0)
  have o := q.1; have o3 := m3.1
  have eg8 : upd g 0 (nI 0) 8 = nI len := e8
  refine wc_in mt_X6_feed rfl (L := [.ref y, .int a, .int b, .int c, .int d, .int e, am_un, am_un]) rfl ?_
  refine r_aload_0 rfl ?_
  refine r_push rfl ?_
  refine r_puti rfl o rfl ?_
  rw [mo_0]
  refine r_aload_0 rfl ?_
  refine r_getf rfl o3 rfl ?_
  rw [eg8]
  refine r_push rfl ?_
  refine r_iadd rfl ?_
  rw [show (20 : Int32) = nI 20 from rfl, nI_add]
  refine r_push rfl ?_
  by_cases z : 400 < len + 20
  · refine r_icleF rfl (nI_lt (a := 400) z (by omega)) ?_
    refine r_push rfl ?_
    refine r_iret rfl ?_
    rw [if_pos z, if_pos z]
    rfl
  · refine r_icleT rfl (nI_le (b := 400) (by omega) (by decide)) ?_
    refine r_push rfl ?_
    refine r_istore_6 rfl ?_
    have k3 : (mh h y (upd g 0 (nI 0))).1 (y + 5) = some (.inl (0, 400, .inl T)) := am_set_k qt (by omega)
    have g0 : upd (upd g 0 (nI 0)) 8 (nI (len + 0)) = upd g 0 (nI 0) := by
      funext k
      by_cases w : k = 8
      · subst w; rw [upd_eq, eg8]; rfl
      · rw [upd_ne w]
    refine wp_forH 20 (fun j L h' => (∃ x7, L = [.ref y, .int a, .int b, .int c, .int d, .int e, .int (nI j), x7]) ∧ MM h' y (upd (upd g 0 (nI 0)) 8 (nI (len + j))) m ∧ h'.1 (y + 5) = some (.inl (0, 400, .inl (feN T len (fdB a b c d e) j))) ∧ h' = mh (am_set h (y + 5) (.inl (0, 400, .inl (feN T len (fdB a b c d e) j)))) y (upd (upd g 0 (nI 0)) 8 (nI (len + j)))) (fun j L h' hj hI kont => ?_) (fun L h' hI => ?_) _ _ ⟨⟨am_un, rfl⟩, ?_, k3, ?_⟩
    · obtain ⟨⟨x7, rfl⟩, mm, o5, eh⟩ := hI
      have oo := mm.1
      have fin : ∀ v, v = fdV a b c d e j → Wp G 1 mt_X6_feed 76 [.ref y, .int a, .int b, .int c, .int d, .int e, .int (nI j), x7] [.int v] h' (fun R => R = .inl (some (.int (if 400 < len + 20 then -1 else nI (len + 20))), if 400 < len + 20 then mh h y (upd g 0 (nI 0)) else mh (am_set h (y + 5) (.inl (0, 400, .inl (feN T len (fdB a b c d e) 20)))) y (upd (upd g 0 (nI 0)) 8 (nI (len + 20))))) := by
        rintro v rfl
        refine r_istore_7 rfl ?_
        refine r_aload_0 rfl ?_
        refine r_getf rfl (oo) (by rfl) ?_
        refine r_aload_0 rfl ?_
        refine r_getf rfl (oo) (by rfl) ?_
        refine r_iload_7 rfl ?_
        refine r_push rfl ?_
        refine r_push rfl ?_
        refine r_iload_6 rfl ?_
        refine r_push rfl ?_
        refine r_irem rfl (by decide) ?_
        refine r_imul rfl ?_
        refine r_isub rfl ?_
        refine r_iushr rfl ?_
        refine r_push rfl ?_
        refine r_iand rfl ?_
        refine r_iast rfl (o5) (upd_eq) (show len + j < 400 by omega) (by first | decide | omega) ?_
        refine r_aload_0 rfl ?_
        refine r_dupR rfl ?_
        refine r_getf rfl (am_set_k oo (by omega)) (by rfl) ?_
        refine r_push rfl ?_
        refine r_iadd rfl ?_
        refine r_puti rfl (am_set_k oo (by omega)) rfl ?_
        refine r_iinc_6 rfl ?_
        refine r_goto rfl ?_
        rw [nI_1, mo_8, upd_upd, upd_eq, nI_1]
        refine kont _ _ ⟨⟨_, rfl⟩, ⟨am_set_at, am_set_k (am_set_k mm.2 (by omega)) (by omega)⟩, am_set_k am_set_at (by omega), ?_⟩
        rw [eh]
        unfold mh
        rw [am_set_comm (a := y) (c := y + 5) (by omega), am_set_set, am_set_set]
        rfl
      by_cases c1 : j < 4
      · refine r_iload_6 rfl ?_
        refine r_push rfl ?_
        refine r_icgeF rfl (nI_lt hj (by decide)) ?_
        refine r_iload_6 rfl ?_
        refine r_push rfl ?_
        refine r_icgeF rfl (nI_lt c1 (by decide)) ?_
        refine r_iload_1 rfl ?_
        refine r_goto rfl ?_
        exact fin _ (if_pos c1).symm
      · by_cases c2 : j < 8
        · refine r_iload_6 rfl ?_
          refine r_push rfl ?_
          refine r_icgeF rfl (nI_lt hj (by decide)) ?_
          refine r_iload_6 rfl ?_
          refine r_push rfl ?_
          refine r_icgeT rfl (nI_le (a := 4) (by omega) (by omega)) ?_
          refine r_iload_6 rfl ?_
          refine r_push rfl ?_
          refine r_icgeF rfl (nI_lt c2 (by decide)) ?_
          refine r_iload_2 rfl ?_
          refine r_goto rfl ?_
          exact fin _ (by unfold fdV; rw [if_neg c1, if_pos c2])
        · by_cases c3 : j < 12
          · refine r_iload_6 rfl ?_
            refine r_push rfl ?_
            refine r_icgeF rfl (nI_lt hj (by decide)) ?_
            refine r_iload_6 rfl ?_
            refine r_push rfl ?_
            refine r_icgeT rfl (nI_le (a := 4) (by omega) (by omega)) ?_
            refine r_iload_6 rfl ?_
            refine r_push rfl ?_
            refine r_icgeT rfl (nI_le (a := 8) (by omega) (by omega)) ?_
            refine r_iload_6 rfl ?_
            refine r_push rfl ?_
            refine r_icgeF rfl (nI_lt c3 (by decide)) ?_
            refine r_iload_3 rfl ?_
            refine r_goto rfl ?_
            exact fin _ (by unfold fdV; rw [if_neg c1, if_neg c2, if_pos c3])
          · by_cases c4 : j < 16
            · refine r_iload_6 rfl ?_
              refine r_push rfl ?_
              refine r_icgeF rfl (nI_lt hj (by decide)) ?_
              refine r_iload_6 rfl ?_
              refine r_push rfl ?_
              refine r_icgeT rfl (nI_le (a := 4) (by omega) (by omega)) ?_
              refine r_iload_6 rfl ?_
              refine r_push rfl ?_
              refine r_icgeT rfl (nI_le (a := 8) (by omega) (by omega)) ?_
              refine r_iload_6 rfl ?_
              refine r_push rfl ?_
              refine r_icgeT rfl (nI_le (a := 12) (by omega) (by omega)) ?_
              refine r_iload_6 rfl ?_
              refine r_push rfl ?_
              refine r_icgeF rfl (nI_lt c4 (by decide)) ?_
              refine r_iload_4 rfl ?_
              refine r_goto rfl ?_
              exact fin _ (by unfold fdV; rw [if_neg c1, if_neg c2, if_neg c3, if_pos c4])
            · refine r_iload_6 rfl ?_
              refine r_push rfl ?_
              refine r_icgeF rfl (nI_lt hj (by decide)) ?_
              refine r_iload_6 rfl ?_
              refine r_push rfl ?_
              refine r_icgeT rfl (nI_le (a := 4) (by omega) (by omega)) ?_
              refine r_iload_6 rfl ?_
              refine r_push rfl ?_
              refine r_icgeT rfl (nI_le (a := 8) (by omega) (by omega)) ?_
              refine r_iload_6 rfl ?_
              refine r_push rfl ?_
              refine r_icgeT rfl (nI_le (a := 12) (by omega) (by omega)) ?_
              refine r_iload_6 rfl ?_
              refine r_push rfl ?_
              refine r_icgeT rfl (nI_le (a := 16) (by omega) (by omega)) ?_
              refine r_iload_5 rfl ?_
              exact fin _ (by unfold fdV; rw [if_neg c1, if_neg c2, if_neg c3, if_neg c4])
    · obtain ⟨⟨x7, rfl⟩, mm, o5, eh⟩ := hI
      have oo := mm.1
      refine r_iload_6 rfl ?_
      refine r_push rfl ?_
      refine r_icgeT rfl (by decide) ?_
      refine r_aload_0 rfl ?_
      refine r_getf rfl (oo) (by rfl) ?_
      refine r_iret rfl ?_
      rw [if_neg z, if_neg z, eh, upd_eq]
    · rw [g0]; exact m3
    · rw [g0]
      unfold mh feN
      rw [am_set_id qt]
      rfl
end
