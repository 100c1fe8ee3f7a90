/-! WHAT IS ASKED of the model -/
set_option maxRecDepth 100000
section
variable {G : am_G} {h : am_H} {y : Nat} {m g : Nat → Int32}
theorem MM.thr (q : MM h y g m) (v : Int32) : MM (mh h y (upd g 0 v)) y (upd g 0 v) m := ⟨am_set_at, am_set_k q.2 (by omega)⟩
/-- answered, with what was thrown -/
abbrev Yc (G : am_G) (d k : Nat) (As : List Value) (h : am_H) (y : Nat) (g : Nat → Int32) (r : Nat × Int32) : Prop := Uc G d k As h (.int r.2) (mh h y (upd g 0 (nI r.1)))
theorem c_yPerson (q : MM h y g m) (v : VR m) (p w : Int32) : Yc G 4 m_X6_person [.ref y, .int p, .int w] h y g (qPerson m p w) := by
  have o := q.1
  have m1 := q.thr (nI 1); have m2 := q.thr (nI 2); have m3 := q.thr (nI 0)
  have o1 := m1.1; have o2 := m2.1; have o3 := m3.1
  refine wc_in mt_X6_person rfl (L := [.ref y, .int p, .int w]) rfl ?_
  unfold qPerson
  cases e1 : inF p 0 (m 3 - 1) with
  | false =>
    rw [if_pos rfl]
    refine r_aload_0 rfl ?_
    refine r_aload_0 rfl ?_
    refine r_iload_1 rfl ?_
    refine r_invvP_1 rfl (o) rfl rfl (by decide) (c_mIsPerson q p) ?_
    refine r_ifneF rfl (by rw [e1]; rfl) ?_
    refine r_push rfl ?_
    refine r_goto rfl ?_
    refine r_puti rfl (o) rfl ?_
    rw [mo_0]
    refine r_aload_0 rfl ?_
    refine r_getf rfl (o1) (by rfl) ?_
    refine r_ifleF rfl (by rw [upd_eq]; decide) ?_
    refine r_push rfl ?_
    refine r_iret rfl ?_
    rfl
  | true =>
    rw [if_neg (by decide)]
    cases e2 : inF w 0 11 with
    | false =>
      rw [if_pos rfl]
      refine r_aload_0 rfl ?_
      refine r_aload_0 rfl ?_
      refine r_iload_1 rfl ?_
      refine r_invvP_1 rfl (o) rfl rfl (by decide) (c_mIsPerson q p) ?_
      refine r_ifneT rfl (by rw [e1]; decide) ?_
      refine r_iload_2 rfl ?_
      refine r_push rfl ?_
      refine r_push rfl ?_
      refine r_invP_3 rfl rfl (by decide) (c_isIn _ _ _) ?_
      refine r_ifneF rfl (by rw [e2]; rfl) ?_
      refine r_push rfl ?_
      refine r_goto rfl ?_
      refine r_puti rfl (o) rfl ?_
      rw [mo_0]
      refine r_aload_0 rfl ?_
      refine r_getf rfl (o2) (by rfl) ?_
      refine r_ifleF rfl (by rw [upd_eq]; decide) ?_
      refine r_push rfl ?_
      refine r_iret rfl ?_
      rfl
    | true =>
      rw [if_neg (by decide)]
      refine r_aload_0 rfl ?_
      refine r_aload_0 rfl ?_
      refine r_iload_1 rfl ?_
      refine r_invvP_1 rfl (o) rfl rfl (by decide) (c_mIsPerson q p) ?_
      refine r_ifneT rfl (by rw [e1]; decide) ?_
      refine r_iload_2 rfl ?_
      refine r_push rfl ?_
      refine r_push rfl ?_
      refine r_invP_3 rfl rfl (by decide) (c_isIn _ _ _) ?_
      refine r_ifneT rfl (by rw [e2]; decide) ?_
      refine r_push rfl ?_
      refine r_puti rfl (o) rfl ?_
      rw [mo_0]
      refine r_aload_0 rfl ?_
      refine r_getf rfl (o3) (by rfl) ?_
      refine r_ifleT rfl (by rw [upd_eq]; decide) ?_
      rw [v.pp.1] at e1
      obtain ⟨k, hk, rfl⟩ := inF_nI (by have := v.pp.2; omega) e1
      obtain ⟨j, hj, rfl⟩ := inF_nI (n := 12) (by decide) e2
      have hk6 : k < 6 := by have := v.pp.2; omega
      rw [nI_clamp (show k < 2 ^ 31 by omega), nI_clamp (show j < 2 ^ 31 by omega)]
      clear o o1 o2 m1 m2
      by_cases c6 : j < 6
      · show Wp _ _ _ _ _ _ _ (fun R => R = .inl (some (.int (prsV m k j)), _))
        unfold prsV
        rw [if_pos c6]
        refine r_iload_2 rfl ?_
        refine r_push rfl ?_
        refine r_icgeF rfl (nI_lt c6 (by decide)) ?_
        refine r_aload_0 rfl ?_
        refine r_iload_1 rfl ?_
        refine r_iload_2 rfl ?_
        refine r_invvP_2 rfl (by assumption) rfl rfl (by decide) (c_mOf m3 rfl (by omega)) ?_
        refine r_iret rfl ?_
        rfl
      · rcases (show j = 6 ∨ j = 7 ∨ j = 8 ∨ j = 9 ∨ j = 10 ∨ j = 11 by omega) with rfl | rfl | rfl | rfl | rfl | rfl
        · refine r_iload_2 rfl ?_
          refine r_push rfl ?_
          refine r_icgeT rfl (by decide) ?_
          refine r_iload_2 rfl ?_
          refine r_push rfl ?_
          refine r_icneF rfl (rfl) ?_
          refine r_aload_0 rfl ?_
          refine r_iload_1 rfl ?_
          refine r_invvP_1 rfl (by assumption) rfl rfl (by decide) (c_mload m3 v _) ?_
          refine r_iret rfl ?_
          rfl
        · refine r_iload_2 rfl ?_
          refine r_push rfl ?_
          refine r_icgeT rfl (by decide) ?_
          refine r_iload_2 rfl ?_
          refine r_push rfl ?_
          refine r_icneT rfl (by decide) ?_
          refine r_iload_2 rfl ?_
          refine r_push rfl ?_
          refine r_icneF rfl (rfl) ?_
          refine r_aload_0 rfl ?_
          refine r_iload_1 rfl ?_
          refine r_invvP_1 rfl (by assumption) rfl rfl (by decide) (c_mworn m3 v _) ?_
          refine r_iret rfl ?_
          rfl
        · refine r_iload_2 rfl ?_
          refine r_push rfl ?_
          refine r_icgeT rfl (by decide) ?_
          refine r_iload_2 rfl ?_
          refine r_push rfl ?_
          refine r_icneT rfl (by decide) ?_
          refine r_iload_2 rfl ?_
          refine r_push rfl ?_
          refine r_icneT rfl (by decide) ?_
          refine r_iload_2 rfl ?_
          refine r_push rfl ?_
          refine r_icneF rfl (rfl) ?_
          refine r_aload_0 rfl ?_
          refine r_aload_0 rfl ?_
          refine r_iload_1 rfl ?_
          refine r_push rfl ?_
          refine r_invvP_2 rfl (by assumption) rfl rfl (by decide) (c_mowed m3 v _ (k9 := 0) rfl (by decide)) ?_
          refine r_invvP_1 rfl (by assumption) rfl rfl (by decide) (c_mweightOf m3 v _) ?_
          refine r_iret rfl ?_
          rfl
        · refine r_iload_2 rfl ?_
          refine r_push rfl ?_
          refine r_icgeT rfl (by decide) ?_
          refine r_iload_2 rfl ?_
          refine r_push rfl ?_
          refine r_icneT rfl (by decide) ?_
          refine r_iload_2 rfl ?_
          refine r_push rfl ?_
          refine r_icneT rfl (by decide) ?_
          refine r_iload_2 rfl ?_
          refine r_push rfl ?_
          refine r_icneT rfl (by decide) ?_
          refine r_iload_2 rfl ?_
          refine r_push rfl ?_
          refine r_icneF rfl (rfl) ?_
          refine r_aload_0 rfl ?_
          refine r_aload_0 rfl ?_
          refine r_iload_1 rfl ?_
          refine r_push rfl ?_
          refine r_invvP_2 rfl (by assumption) rfl rfl (by decide) (c_mowed m3 v _ (k9 := 1) rfl (by decide)) ?_
          refine r_invvP_1 rfl (by assumption) rfl rfl (by decide) (c_mweightOf m3 v _) ?_
          refine r_iret rfl ?_
          show _ = Sum.inl (some (Value.int (weightF m (dueF m (nI k)))), _)
          unfold dueF
          rw [show (fun s => !decide (m (72 + 6 * s) = 2) && decide (m (69 + 6 * s + 1) = nI k)) = (fun s => !decide (m (72 + 6 * s) = 2) && decide (m (70 + 6 * s) = nI k)) from funext fun s => by rw [show 69 + 6 * s + 1 = 70 + 6 * s by omega]]
          rfl
        · refine r_iload_2 rfl ?_
          refine r_push rfl ?_
          refine r_icgeT rfl (by decide) ?_
          refine r_iload_2 rfl ?_
          refine r_push rfl ?_
          refine r_icneT rfl (by decide) ?_
          refine r_iload_2 rfl ?_
          refine r_push rfl ?_
          refine r_icneT rfl (by decide) ?_
          refine r_iload_2 rfl ?_
          refine r_push rfl ?_
          refine r_icneT rfl (by decide) ?_
          refine r_iload_2 rfl ?_
          refine r_push rfl ?_
          refine r_icneT rfl (by decide) ?_
          refine r_iload_2 rfl ?_
          refine r_push rfl ?_
          refine r_icneF rfl (rfl) ?_
          refine r_aload_0 rfl ?_
          refine r_iload_1 rfl ?_
          refine r_invvP_1 rfl (by assumption) rfl rfl (by decide) (c_mworn m3 v _) ?_
          refine r_aload_0 rfl ?_
          refine r_iload_1 rfl ?_
          refine r_push rfl ?_
          refine r_invvP_2 rfl (by assumption) rfl rfl (by decide) (c_mowed m3 v _ (k9 := 0) rfl (by decide)) ?_
          refine r_push rfl ?_
          refine r_ixor rfl ?_
          refine r_iand rfl ?_
          refine r_goto rfl ?_
          refine r_iret rfl ?_
          show _ = Sum.inl (some (Value.int (bearF m (nI k))), _)
          rw [← bearF_eq v.ss.2]
          rfl
        · refine r_iload_2 rfl ?_
          refine r_push rfl ?_
          refine r_icgeT rfl (by decide) ?_
          refine r_iload_2 rfl ?_
          refine r_push rfl ?_
          refine r_icneT rfl (by decide) ?_
          refine r_iload_2 rfl ?_
          refine r_push rfl ?_
          refine r_icneT rfl (by decide) ?_
          refine r_iload_2 rfl ?_
          refine r_push rfl ?_
          refine r_icneT rfl (by decide) ?_
          refine r_iload_2 rfl ?_
          refine r_push rfl ?_
          refine r_icneT rfl (by decide) ?_
          refine r_iload_2 rfl ?_
          refine r_push rfl ?_
          refine r_icneT rfl (by decide) ?_
          refine r_aload_0 rfl ?_
          refine r_iload_1 rfl ?_
          refine r_invvP_1 rfl (by assumption) rfl rfl (by decide) (c_misBowed m3 v hk) ?_
          refine r_ifeq rfl (fun c_139 => ?_) (fun c_139 => ?_)
          · refine r_push rfl ?_
            refine r_iret rfl ?_
            show _ = Sum.inl (some (Value.int (bI (bowF m k))), _)
            first | (rw [c_139]; rfl) | (rw [bI_1.mpr (bI_n0.mp c_139)]; rfl)
          · refine r_push rfl ?_
            refine r_goto rfl ?_
            refine r_iret rfl ?_
            show _ = Sum.inl (some (Value.int (bI (bowF m k))), _)
            first | (rw [c_139]; rfl) | (rw [bI_1.mpr (bI_n0.mp c_139)]; rfl)
theorem c_yStone (q : MM h y g m) (v : VR m) (p w : Int32) : Yc G 4 m_X6_stone [.ref y, .int p, .int w] h y g (qStone m p w) := by
  have o := q.1
  have m1 := q.thr (nI 1); have m2 := q.thr (nI 2); have m3 := q.thr (nI 0)
  have o1 := m1.1; have o2 := m2.1; have o3 := m3.1
  refine wc_in mt_X6_stone rfl (L := [.ref y, .int p, .int w, am_un]) rfl ?_
  unfold qStone
  cases e1 : inF p 0 (m 4 - 1) with
  | false =>
    rw [if_pos rfl]
    refine r_aload_0 rfl ?_
    refine r_aload_0 rfl ?_
    refine r_iload_1 rfl ?_
    refine r_invvP_1 rfl (o) rfl rfl (by decide) (c_mIsStone q p) ?_
    refine r_ifneF rfl (by rw [e1]; rfl) ?_
    refine r_push rfl ?_
    refine r_goto rfl ?_
    refine r_puti rfl (o) rfl ?_
    rw [mo_0]
    refine r_aload_0 rfl ?_
    refine r_getf rfl (o1) (by rfl) ?_
    refine r_ifleF rfl (by rw [upd_eq]; decide) ?_
    refine r_push rfl ?_
    refine r_iret rfl ?_
    rfl
  | true =>
    rw [if_neg (by decide)]
    cases e2 : inF w 0 5 with
    | false =>
      rw [if_pos rfl]
      refine r_aload_0 rfl ?_
      refine r_aload_0 rfl ?_
      refine r_iload_1 rfl ?_
      refine r_invvP_1 rfl (o) rfl rfl (by decide) (c_mIsStone q p) ?_
      refine r_ifneT rfl (by rw [e1]; decide) ?_
      refine r_iload_2 rfl ?_
      refine r_push rfl ?_
      refine r_push rfl ?_
      refine r_invP_3 rfl rfl (by decide) (c_isIn _ _ _) ?_
      refine r_ifneF rfl (by rw [e2]; rfl) ?_
      refine r_push rfl ?_
      refine r_goto rfl ?_
      refine r_puti rfl (o) rfl ?_
      rw [mo_0]
      refine r_aload_0 rfl ?_
      refine r_getf rfl (o2) (by rfl) ?_
      refine r_ifleF rfl (by rw [upd_eq]; decide) ?_
      refine r_push rfl ?_
      refine r_iret rfl ?_
      rfl
    | true =>
      rw [if_neg (by decide)]
      refine r_aload_0 rfl ?_
      refine r_aload_0 rfl ?_
      refine r_iload_1 rfl ?_
      refine r_invvP_1 rfl (o) rfl rfl (by decide) (c_mIsStone q p) ?_
      refine r_ifneT rfl (by rw [e1]; decide) ?_
      refine r_iload_2 rfl ?_
      refine r_push rfl ?_
      refine r_push rfl ?_
      refine r_invP_3 rfl rfl (by decide) (c_isIn _ _ _) ?_
      refine r_ifneT rfl (by rw [e2]; decide) ?_
      refine r_push rfl ?_
      refine r_puti rfl (o) rfl ?_
      rw [mo_0]
      refine r_aload_0 rfl ?_
      refine r_getf rfl (o3) (by rfl) ?_
      refine r_ifleT rfl (by rw [upd_eq]; decide) ?_
      rw [v.ss.1] at e1
      obtain ⟨k, hk, rfl⟩ := inF_nI (by have := v.ss.2; omega) e1
      obtain ⟨j, hj, rfl⟩ := inF_nI (n := 6) (by decide) e2
      have hk6 : k < 10 := by have := v.ss.2; omega
      rw [nI_clamp (show k < 2 ^ 31 by omega), nI_clamp (show j < 2 ^ 31 by omega)]
      have hw := (v.st k hk).2.2.2.2.1
      clear o o1 o2 m1 m2
      refine r_aload_0 rfl ?_
      refine r_iload_1 rfl ?_
      refine r_push rfl ?_
      refine r_invvP_2 rfl o3 rfl rfl (by decide) (c_os3 m3 (by omega)) ?_
      refine r_istore_3 rfl ?_
      by_cases c6 : j < 4
      · show Wp _ _ _ _ _ _ _ (fun R => R = .inl (some (.int (stnV m k j)), _))
        unfold stnV
        rw [if_pos c6]
        refine r_iload_2 rfl ?_
        refine r_push rfl ?_
        refine r_icgeF rfl (nI_lt c6 (by decide)) ?_
        refine r_aload_0 rfl ?_
        refine r_iload_1 rfl ?_
        refine r_iload_2 rfl ?_
        refine r_invvP_2 rfl (by assumption) rfl rfl (by decide) (c_mOfS m3 rfl (by omega)) ?_
        refine r_iret rfl ?_
        rfl
      · rcases (show j = 4 ∨ j = 5 by omega) with rfl | rfl
        · refine r_iload_2 rfl ?_
          refine r_push rfl ?_
          refine r_icgeT rfl (by decide) ?_
          refine r_iload_2 rfl ?_
          refine r_push rfl ?_
          refine r_icneF rfl (rfl) ?_
          refine r_iload_3 rfl ?_
          refine r_ifne rfl (fun c_64 => ?_) (fun c_64 => ?_)
          · refine r_push rfl ?_
            refine r_iret rfl ?_
            show _ = Sum.inl (some (Value.int (if m (72 + 6 * k) = 0 then m (73 + 6 * k) else -1)), _)
            first | (rw [if_pos c_64]; rfl) | (rw [if_neg c_64]; rfl)
          · refine r_aload_0 rfl ?_
            refine r_iload_1 rfl ?_
            refine r_push rfl ?_
            refine r_invvP_2 rfl (by assumption) rfl rfl (by decide) (c_os4 m3 (by omega)) ?_
            refine r_goto rfl ?_
            refine r_iret rfl ?_
            show _ = Sum.inl (some (Value.int (if m (72 + 6 * k) = 0 then m (73 + 6 * k) else -1)), _)
            first | (rw [if_pos c_64]; rfl) | (rw [if_neg c_64]; rfl)
        · refine r_iload_2 rfl ?_
          refine r_push rfl ?_
          refine r_icgeT rfl (by decide) ?_
          refine r_iload_2 rfl ?_
          refine r_push rfl ?_
          refine r_icneT rfl (by decide) ?_
          refine r_iload_3 rfl ?_
          refine r_ifne rfl (fun c => ?_) (fun c => ?_)
          · refine r_iload_3 rfl ?_
            refine r_push rfl ?_
            refine r_icne rfl (fun c_98 => ?_) (fun c_98 => ?_)
            · refine r_push rfl ?_
              refine r_iret rfl ?_
              show _ = Sum.inl (some (Value.int (if m (72 + 6 * k) = 0 then m (35 + 6 * (m (73 + 6 * k)).toNatClampNeg) else if m (72 + 6 * k) = 1 then m (74 + 6 * k) else -1)), _)
              rw [if_neg c]
              first | (rw [if_pos c_98]; rfl) | (rw [if_neg c_98]; rfl)
            · refine r_aload_0 rfl ?_
              refine r_iload_1 rfl ?_
              refine r_push rfl ?_
              refine r_invvP_2 rfl (by assumption) rfl rfl (by decide) (c_os5 m3 (by omega)) ?_
              refine r_goto rfl ?_
              refine r_iret rfl ?_
              show _ = Sum.inl (some (Value.int (if m (72 + 6 * k) = 0 then m (35 + 6 * (m (73 + 6 * k)).toNatClampNeg) else if m (72 + 6 * k) = 1 then m (74 + 6 * k) else -1)), _)
              rw [if_neg c]
              first | (rw [if_pos c_98]; rfl) | (rw [if_neg c_98]; rfl)
          · have c0 : m (72 + 6 * k) = 0 := by first | exact c | exact Decidable.not_not.mp c
            obtain ⟨a, ha, ea⟩ := hw c0
            have hP := v.pp.2
            refine r_aload_0 rfl ?_
            refine r_aload_0 rfl ?_
            refine r_iload_1 rfl ?_
            refine r_push rfl ?_
            refine r_invvP_2 rfl o3 rfl rfl (by decide) (c_os4 m3 (by omega)) ?_
            rw [ea]
            refine r_push rfl ?_
            refine r_invvP_2 rfl o3 rfl rfl (by decide) (c_of2 m3 (by omega)) ?_
            refine r_goto rfl ?_
            refine r_iret rfl ?_
            show _ = Sum.inl (some (Value.int (if m (72 + 6 * k) = 0 then m (35 + 6 * (m (73 + 6 * k)).toNatClampNeg) else if m (72 + 6 * k) = 1 then m (74 + 6 * k) else -1)), _)
            rw [if_pos c0, ea, nI_clamp (by omega)]
            rfl
theorem c_yPlace (q : MM h y g m) (v : VR m) (p w : Int32) : Yc G 4 m_X6_place [.ref y, .int p, .int w] h y g (qPlace m p w) := by
  have o := q.1
  have m1 := q.thr (nI 1); have m2 := q.thr (nI 2); have m3 := q.thr (nI 0)
  have o1 := m1.1; have o2 := m2.1; have o3 := m3.1
  have r3 := m3.2
  refine wc_in mt_X6_place rfl (L := [.ref y, .int p, .int w]) rfl ?_
  unfold qPlace
  cases e1 : inF p 0 11 with
  | false =>
    rw [if_pos rfl]
    refine r_aload_0 rfl ?_
    refine r_iload_1 rfl ?_
    refine r_invP_1 rfl rfl (by decide) (c_mIsPlace p) ?_
    refine r_ifneF rfl (by rw [e1]; rfl) ?_
    refine r_push rfl ?_
    refine r_goto rfl ?_
    refine r_puti rfl (o) rfl ?_
    rw [mo_0]
    refine r_aload_0 rfl ?_
    refine r_getf rfl (o1) (by rfl) ?_
    refine r_ifleF rfl (by rw [upd_eq]; decide) ?_
    refine r_push rfl ?_
    refine r_iret rfl ?_
    rfl
  | true =>
    rw [if_neg (by decide)]
    cases e2 : inF w 0 3 with
    | false =>
      rw [if_pos rfl]
      refine r_aload_0 rfl ?_
      refine r_iload_1 rfl ?_
      refine r_invP_1 rfl rfl (by decide) (c_mIsPlace p) ?_
      refine r_ifneT rfl (by rw [e1]; decide) ?_
      refine r_iload_2 rfl ?_
      refine r_push rfl ?_
      refine r_push rfl ?_
      refine r_invP_3 rfl rfl (by decide) (c_isIn _ _ _) ?_
      refine r_ifneF rfl (by rw [e2]; rfl) ?_
      refine r_push rfl ?_
      refine r_goto rfl ?_
      refine r_puti rfl (o) rfl ?_
      rw [mo_0]
      refine r_aload_0 rfl ?_
      refine r_getf rfl (o2) (by rfl) ?_
      refine r_ifleF rfl (by rw [upd_eq]; decide) ?_
      refine r_push rfl ?_
      refine r_iret rfl ?_
      rfl
    | true =>
      rw [if_neg (by decide)]
      refine r_aload_0 rfl ?_
      refine r_iload_1 rfl ?_
      refine r_invP_1 rfl rfl (by decide) (c_mIsPlace p) ?_
      refine r_ifneT rfl (by rw [e1]; decide) ?_
      refine r_iload_2 rfl ?_
      refine r_push rfl ?_
      refine r_push rfl ?_
      refine r_invP_3 rfl rfl (by decide) (c_isIn _ _ _) ?_
      refine r_ifneT rfl (by rw [e2]; decide) ?_
      refine r_push rfl ?_
      refine r_puti rfl (o) rfl ?_
      rw [mo_0]
      refine r_aload_0 rfl ?_
      refine r_getf rfl (o3) (by rfl) ?_
      refine r_ifleT rfl (by rw [upd_eq]; decide) ?_
      obtain ⟨k, hk, rfl⟩ := inF_nI (n := 12) (by decide) e1
      obtain ⟨j, hj, rfl⟩ := inF_nI (n := 4) (by decide) e2
      rw [nI_clamp (show k < 2 ^ 31 by omega), nI_clamp (show j < 2 ^ 31 by omega)]
      clear o o1 o2 m1 m2
      rcases (show j = 0 ∨ j = 1 ∨ j = 2 ∨ j = 3 by omega) with rfl | rfl | rfl | rfl
      · refine r_iload_2 rfl ?_
        refine r_ifneF rfl (rfl) ?_
        refine r_aload_0 rfl ?_
        refine r_getf rfl (by assumption) (by rfl) ?_
        refine r_push rfl ?_
        refine r_iload_1 rfl ?_
        refine r_iadd rfl ?_
        refine r_iald rfl (r3) (show (9 : Int32) + nI k = nI (9 + k) from nI_add 9 k) (by first | assumption | omega) (by first | decide | omega) ?_
        refine r_goto rfl ?_
        refine r_iret rfl ?_
        rfl
      · refine r_iload_2 rfl ?_
        refine r_ifneT rfl (by decide) ?_
        refine r_iload_2 rfl ?_
        refine r_push rfl ?_
        refine r_icneF rfl (rfl) ?_
        refine r_aload_0 rfl ?_
        refine r_getf rfl (by assumption) (by rfl) ?_
        refine r_push rfl ?_
        refine r_iload_1 rfl ?_
        refine r_iadd rfl ?_
        refine r_iald rfl (r3) (show (21 : Int32) + nI k = nI (21 + k) from nI_add 21 k) (by first | assumption | omega) (by first | decide | omega) ?_
        refine r_goto rfl ?_
        refine r_iret rfl ?_
        rfl
      · refine r_iload_2 rfl ?_
        refine r_ifneT rfl (by decide) ?_
        refine r_iload_2 rfl ?_
        refine r_push rfl ?_
        refine r_icneT rfl (by decide) ?_
        refine r_iload_2 rfl ?_
        refine r_push rfl ?_
        refine r_icneF rfl (rfl) ?_
        refine r_aload_0 rfl ?_
        refine r_iload_1 rfl ?_
        refine r_invvP_1 rfl (by assumption) rfl rfl (by decide) (c_mthoseAt m3 v _) ?_
        refine r_goto rfl ?_
        refine r_iret rfl ?_
        rfl
      · refine r_iload_2 rfl ?_
        refine r_ifneT rfl (by decide) ?_
        refine r_iload_2 rfl ?_
        refine r_push rfl ?_
        refine r_icneT rfl (by decide) ?_
        refine r_iload_2 rfl ?_
        refine r_push rfl ?_
        refine r_icneT rfl (by decide) ?_
        refine r_aload_0 rfl ?_
        refine r_iload_1 rfl ?_
        refine r_invvP_1 rfl (by assumption) rfl rfl (by decide) (c_mstonesAt m3 v _) ?_
        refine r_iret rfl ?_
        rfl
end
