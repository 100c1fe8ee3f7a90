/-! THE LAW: the model reads it -/
set_option maxRecDepth 100000
/-- the numbers as a text is begun -/
def gB (g : Nat → Int32) : Nat → Int32 := upd (upd (upd (upd (upd (upd g 12 (-1)) 9 (-1)) 10 (g 8)) 8 0) 11 0) 13 0
theorem lawR_cp {m T : Nat → Int32} {len n : Nat} : cpN T (upd (upd m 1 (nI n)) 2 (nI len)) 0 369 len = lawR m T len n := by
  funext k
  rw [cpN_at]
  unfold lawR
  by_cases c : 369 ≤ k ∧ k < 369 + len
  · rw [if_pos c, if_neg (by omega), if_neg (by omega), if_pos c, Nat.zero_add]
  · rw [if_neg c, if_neg c]
    by_cases c2 : k = 2
    · subst c2; rfl
    · rw [upd_ne c2]
      by_cases c1 : k = 1
      · subst c1; rfl
      · rw [upd_ne c1, if_neg c1, if_neg c2]
section
variable {G : am_G} {bs y len : Nat} {h : am_H} {m g T : Nat → Int32}
theorem c_yBegins (o : h.1 y = some (mcell y g)) : Un G 0 m_X6_begins [.ref y] h (mh h y (gB g)) := by
  refine wc_in mt_X6_begins rfl (L := [.ref y]) rfl ?_
  refine r_aload_0 rfl ?_
  refine r_push rfl ?_
  refine r_puti rfl (o) rfl ?_
  rw [mo_12]
  refine r_aload_0 rfl ?_
  refine r_push rfl ?_
  refine r_puti rfl (am_set_at) rfl ?_
  rw [mo_9, am_set_set]
  refine r_aload_0 rfl ?_
  refine r_aload_0 rfl ?_
  refine r_getf rfl (am_set_at) (by rfl) ?_
  refine r_puti rfl (am_set_at) rfl ?_
  rw [mo_10, am_set_set]
  refine r_aload_0 rfl ?_
  refine r_push rfl ?_
  refine r_puti rfl (am_set_at) rfl ?_
  rw [mo_8, am_set_set]
  refine r_aload_0 rfl ?_
  refine r_push rfl ?_
  refine r_puti rfl (am_set_at) rfl ?_
  rw [mo_11, am_set_set]
  refine r_aload_0 rfl ?_
  refine r_push rfl ?_
  refine r_puti rfl (am_set_at) rfl ?_
  rw [mo_13, am_set_set]
  refine r_vret rfl ?_
  rfl
/-- the facts as they lie -/
def faF (fa g : Nat → Int32) : Fc := fun k => if k = 7 then g 15 else if k = 8 then g 16 else fa k
theorem ms_begun (q : MM h y g m) (og : OG G bs h) (hb : bs ≤ y) (qt : h.1 (y + 5) = some (.inl (0, 400, .inl T))) {fa : Nat → Int32} (qf : h.1 (y + 6) = some (.inl (0, 7, .inl fa))) (bz : Bz (g 15) ∧ Bz (g 16)) (e8 : g 8 = nI len) (hl : len ≤ 400) : MS G bs (mh h y (gB g)) y (gB g) T len (faF fa g) := by
  refine ⟨⟨am_set_at, ⟨m, T, am_set_k q.2 (by omega), am_set_k qt (by omega), Or.inl ⟨rfl, fun _ _ => rfl⟩⟩, e8, hl⟩, ⟨fa, am_set_k qf (by omega), fun k hk => ?_⟩, ⟨rfl, rfl, bz.1, bz.2⟩, og.same (fun a e9 z9 q9 => am_set_k q9 (by omega)), hb⟩
  unfold faF
  rw [if_neg (by omega), if_neg (by omega)]
/-- what the law's text leaves of the numbers -/
def LG (g g' : Nat → Int32) (th ft ac : Int32) : Prop := g' 0 = th ∧ g' 3 = g 3 ∧ g' 6 = ac ∧ g' 8 = 0 ∧ g' 12 = ft ∧ (Bz (g 15) ∧ Bz (g 16) → Bz (g' 15) ∧ Bz (g' 16))
theorem c_yLaw (q : MM h y g m) (og : OG G bs h) (hb : bs ≤ y) (qt : h.1 (y + 5) = some (.inl (0, 400, .inl T))) {fa : Nat → Int32} (qf : h.1 (y + 6) = some (.inl (0, 7, .inl fa))) (bz : Bz (g 15) ∧ Bz (g 16)) (e8 : g 8 = nI len) (hl : len ≤ 400) : Ev G 33 m_X6_law [.ref y] h (fun v h' => (∃ ls g', lawF T len = .inr (ls, len) ∧ ls.length ≤ 12 ∧ v = .int (nI ls.length) ∧ LG g g' 0 (-1) 0 ∧ h' = mh (am_set h (y + 1) (.inl (0, 769, .inl (lawR m T len ls.length)))) y g') ∨ (∃ z g', lawF T len = .inl z ∧ z ≤ len ∧ v = .int 0 ∧ LG g g' 1 (nI z) (g 6) ∧ h' = mh h y g')) := by
  have S := ms_begun q og hb qt qf bz e8 hl
  have rd := kReadLaw S rfl rfl
  have e0 : mK (mh h y (gB g)) y (gB g) 0 = mh h y (gB g) := mK_id am_set_at rfl
  rw [e0] at rd
  refine wc_in mt_X6_law rfl (L := [.ref y, am_un, am_un]) rfl ?_
  refine r_aload_0 rfl ?_
  refine r_invvV rfl rfl q.1 rfl rfl (by decide) (c_yBegins q.1) ?_
  refine r_aload_0 rfl ?_
  refine r_push rfl ?_
  refine r_invvR rfl rfl am_set_at rfl rfl (by decide) rd ?_
  rintro R (⟨ls, q1, q2, rfl⟩ | ⟨z, a9, dp, ls, n, q1, q2, rfl⟩)
  · show Wp G 33 mt_X6_law 9 _ _ (mK (mh h y (gB g)) y (sumG (gB g) (faF fa g) ls) len) _
    rw [mK_mh]
    obtain ⟨g1, hg1⟩ : ∃ g1, g1 = upd (upd (sumG (gB g) (faF fa g) ls) 11 (nI len)) 0 0 := ⟨_, rfl⟩
    have g10 : g1 10 = nI len := by rw [hg1]; exact e8
    have m1 : MM (mh h y g1) y g1 m := ⟨am_set_at, am_set_k q.2 (by omega)⟩
    have m2 : MM (am_set (mh h y g1) (y + 1) (.inl (0, 769, .inl (upd m 1 (nI ls.length))))) y g1 (upd m 1 (nI ls.length)) := m1.set
    have m3 : MM (am_set (mh h y g1) (y + 1) (.inl (0, 769, .inl (upd (upd m 1 (nI ls.length)) 2 (nI len))))) y g1 (upd (upd m 1 (nI ls.length)) 2 (nI len)) := m1.set
    refine r_istore_1 rfl ?_
    refine r_aload_0 rfl ?_
    refine r_aload_0 rfl ?_
    refine r_getf rfl (am_set_at) (by rfl) ?_
    refine r_push rfl ?_
    refine r_iceqT rfl (rfl) ?_
    refine r_push rfl ?_
    refine r_puti rfl (am_set_at) rfl ?_
    rw [mo_0, am_set_set, ← hg1]
    refine r_aload_0 rfl ?_
    refine r_getf rfl (m1.1) (by rfl) ?_
    refine r_ifleT rfl (by rw [hg1, upd_eq]; exact Int32.le_refl _) ?_
    refine r_aload_0 rfl ?_
    refine r_getf rfl (m1.1) (by rfl) ?_
    refine r_push rfl ?_
    refine r_iload_1 rfl ?_
    refine r_iast rfl (m1.2) (show (1 : Int32) = nI 1 from rfl) (by first | assumption | omega) (by first | decide | omega) ?_
    refine r_aload_0 rfl ?_
    refine r_getf rfl (m2.1) (by rfl) ?_
    refine r_push rfl ?_
    refine r_aload_0 rfl ?_
    refine r_getf rfl (m2.1) (by rfl) ?_
    rw [g10]
    refine r_iast rfl (m2.2) (show (2 : Int32) = nI 2 from rfl) (by first | assumption | omega) (by first | decide | omega) ?_
    rw [am_set_set]
    refine r_push rfl ?_
    refine r_istore_2 rfl ?_
    refine wp_forHK len (fun j => [.ref y, .int (nI ls.length), .int (nI j)]) (fun j h' => h' = am_set (mh h y g1) (y + 1) (.inl (0, 769, .inl (cpN T (upd (upd m 1 (nI ls.length)) 2 (nI len)) 0 369 j)))) (fun j h' hj hK kont => ?_) (fun h' hK => ?_) rfl
    · subst hK
      have mj : MM (am_set (mh h y g1) (y + 1) (.inl (0, 769, .inl (cpN T (upd (upd m 1 (nI ls.length)) 2 (nI len)) 0 369 j)))) y g1 (cpN T (upd (upd m 1 (nI ls.length)) 2 (nI len)) 0 369 j) := m1.set
      have tj : (am_set (mh h y g1) (y + 1) (.inl (0, 769, .inl (cpN T (upd (upd m 1 (nI ls.length)) 2 (nI len)) 0 369 j)))).1 (y + 5) = some (.inl (0, 400, .inl T)) := am_set_k (am_set_k qt (by omega)) (by omega)
      refine r_iload_2 rfl ?_
      refine r_aload_0 rfl ?_
      refine r_getf rfl (mj.1) (by rfl) ?_
      refine r_icgeF rfl (by rw [g10]; exact nI_lt hj (by omega)) ?_
      refine r_aload_0 rfl ?_
      refine r_getf rfl (mj.1) (by rfl) ?_
      refine r_push rfl ?_
      refine r_iload_2 rfl ?_
      refine r_iadd rfl ?_
      refine r_aload_0 rfl ?_
      refine r_getf rfl (mj.1) (by rfl) ?_
      refine r_iload_2 rfl ?_
      refine r_iald rfl (tj) (by rfl) (show j < 400 by omega) (by first | decide | omega) ?_
      refine r_iast rfl (mj.2) (nI_add 369 j) (by first | assumption | omega) (by first | decide | omega) ?_
      rw [am_set_set]
      refine r_iinc_2 rfl ?_
      refine r_goto rfl ?_
      rw [nI_1]
      refine kont _ ?_
      rw [cpN, Nat.zero_add]
    · subst hK
      rw [lawR_cp]
      have mj : MM (am_set (mh h y g1) (y + 1) (.inl (0, 769, .inl (lawR m T len ls.length)))) y g1 (lawR m T len ls.length) := m1.set
      refine r_iload_2 rfl ?_
      refine r_aload_0 rfl ?_
      refine r_getf rfl (mj.1) (by rfl) ?_
      refine r_icgeT rfl (by rw [g10]; exact Int32.le_refl _) ?_
      refine r_aload_0 rfl ?_
      refine r_push rfl ?_
      refine r_puti rfl (mj.1) rfl ?_
      rw [mo_6]
      refine r_iload_1 rfl ?_
      refine r_iret rfl ?_
      refine ⟨_, _, rfl, Or.inl ⟨ls, upd g1 6 0, q1, q2, rfl, ⟨?_, ?_, rfl, ?_, ?_, ?_⟩, ?_⟩⟩
      · rw [hg1]; rfl
      · rw [hg1]; rfl
      · rw [hg1]; rfl
      · rw [hg1]; rfl
      · rw [hg1]; exact id
      · rw [am_set_comm (a := y) (c := y + 1) (by omega), am_set_set]
  · show Wp G 33 mt_X6_law 9 _ _ (mh (mh h y (gB g)) y (gF (sumG (gB g) (faF fa g) ls) z a9 dp)) _
    rw [mh_mh]
    have nz : ¬ gF (sumG (gB g) (faF fa g) ls) z a9 dp 12 = -1 := by rw [gF_12]; exact nI_ne1 (by omega)
    refine r_istore_1 rfl ?_
    refine r_aload_0 rfl ?_
    refine r_aload_0 rfl ?_
    refine r_getf rfl (am_set_at) (by rfl) ?_
    refine r_push rfl ?_
    refine r_iceqF rfl (nz) ?_
    refine r_push rfl ?_
    refine r_goto rfl ?_
    refine r_puti rfl (am_set_at) rfl ?_
    rw [mo_0, am_set_set]
    refine r_aload_0 rfl ?_
    refine r_getf rfl (am_set_at) (by rfl) ?_
    refine r_ifleF rfl (by rw [upd_eq]; decide) ?_
    refine r_push rfl ?_
    refine r_iret rfl ?_
    exact ⟨_, _, rfl, Or.inr ⟨z, upd (gF (sumG (gB g) (faF fa g) ls) z a9 dp) 0 1, q1, q2, rfl, ⟨rfl, rfl, rfl, rfl, rfl, id⟩, rfl⟩⟩
end
