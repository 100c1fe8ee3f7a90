/-! ACTS of the model: goal, rest -/
set_option maxRecDepth 100000
/-- the numbers after an act -/
def actG (g : Nat → Int32) (k : Nat) : Nat → Int32 := upd (upd g 0 (nI 0)) 6 (nI (remK k))
/-- the heap after an act: remembered, a new row -/
def actH (h : am_H) (y : Nat) (g ac m m' : Nat → Int32) (k : Nat) : am_H := am_set (mh (am_set (mh h y (upd g 0 (nI 0))) (y + 4) (.inl (0, 4428, .inl (remA m ac k)))) y (actG g k)) (y + 1) (.inl (0, 769, .inl m'))
def qGoal (m : Nat → Int32) (p t : Int32) : Nat × Int32 := if inF p 0 (m 3 - 1) = false then (1, 0) else if inF t 0 11 = false then (1, 0) else (0, m (36 + 6 * p.toNatClampNeg))
def gRow (m : Nat → Int32) (p t : Int32) : Nat → Int32 := upd m (36 + 6 * p.toNatClampNeg) t
def qRest (m : Nat → Int32) (p : Int32) : Nat × Int32 := if inF p 0 (m 3 - 1) = false then (1, 0) else (0, m (37 + 6 * p.toNatClampNeg))
def rRow (m : Nat → Int32) (p : Int32) : Nat → Int32 := upd (upd m (37 + 6 * p.toNatClampNeg) 0) (38 + 6 * p.toNatClampNeg) 0
/-- answered by the model, the row m' then; or thrown -/
abbrev Ac (G : am_G) (d k : Nat) (As : List Value) (h : am_H) (y : Nat) (g ac m m' : Nat → Int32) (n : Nat) (r : Nat × Int32) : Prop := Uc G d k As h (.int r.2) (if r.1 = 0 then actH h y g ac m m' n else mh h y (upd g 0 (nI r.1)))
section
variable {G : am_G} {h : am_H} {y k : Nat} {m g ac : Nat → Int32}
theorem actM (q : MM h y g m) {m' : Nat → Int32} : MM (actH h y g ac m m' k) y (actG g k) m' := ⟨am_set_k am_set_at (by omega), am_set_at⟩
theorem act0 (q : MM h y g m) : mh (am_set (mh h y (upd g 0 (nI 0))) (y + 4) (.inl (0, 4428, .inl (remA m ac k)))) y (upd (upd g 0 (nI 0)) 6 (nI (remK k))) = actH h y g ac m m k := by
  unfold actH actG
  exact (am_set_id (am_set_k (am_set_k (am_set_k q.2 (by omega)) (by omega)) (by omega))).symm
theorem act1 {m1 m2 : Nat → Int32} : am_set (actH h y g ac m m1 k) (y + 1) (.inl (0, 769, .inl m2)) = actH h y g ac m m2 k := am_set_set
theorem c_rem (q : MM h y g m) (qa : h.1 (y + 4) = some (.inl (0, 4428, .inl ac))) (e6 : g 6 = nI k) (hk : k ≤ 12) : Un G 0 m_X6_remembers [.ref y] (mh h y (upd g 0 (nI 0))) (actH h y g ac m m k) := by
  rw [← act0 q]
  exact c_mremembers (q.thr (nI 0)) (am_set_k qa (by omega)) e6 hk
theorem c_yGoal (q : MM h y g m) (v : VR m) (qa : h.1 (y + 4) = some (.inl (0, 4428, .inl ac))) (e6 : g 6 = nI k) (hk : k ≤ 12) (p t : Int32) : Ac G 4 m_X6_goal [.ref y, .int p, .int t] h y g ac m (gRow m p t) k (qGoal m p t) := by
  have o := q.1
  have o1 := (q.thr (nI 1)).1; have o3 := (q.thr (nI 0)).1
  refine wc_in mt_X6_goal rfl (L := [.ref y, .int p, .int t, am_un]) rfl ?_
  unfold qGoal
  cases e1 : inF p 0 (m 3 - 1) with
  | false =>
    rw [if_pos rfl]
    refine r_aload_0 rfl ?_
    refine r_aload_0 rfl ?_
    refine r_iload_1 rfl ?_
    refine r_invvP_1 rfl (o) rfl rfl (by decide) (c_mIsPerson q p) ?_
    refine r_ifeqT rfl (by rw [e1]; rfl) ?_
    refine r_push rfl ?_
    refine r_goto rfl ?_
    refine r_puti rfl (o) rfl ?_
    rw [mo_0]
    refine r_aload_0 rfl ?_
    refine r_getf rfl (o1) (by rfl) ?_
    refine r_ifleF rfl (by rw [upd_eq]; decide) ?_
    refine r_push rfl ?_
    refine r_iret rfl ?_
    rfl
  | true =>
    rw [if_neg (by decide)]
    cases e2 : inF t 0 11 with
    | false =>
      rw [if_pos rfl]
      refine r_aload_0 rfl ?_
      refine r_aload_0 rfl ?_
      refine r_iload_1 rfl ?_
      refine r_invvP_1 rfl (o) rfl rfl (by decide) (c_mIsPerson q p) ?_
      refine r_ifeqF rfl (by rw [e1]; decide) ?_
      refine r_iload_2 rfl ?_
      refine r_invP_1 rfl rfl (by decide) (c_mIsPlace t) ?_
      refine r_ifneF rfl (by rw [e2]; rfl) ?_
      refine r_push rfl ?_
      refine r_goto rfl ?_
      refine r_puti rfl (o) rfl ?_
      rw [mo_0]
      refine r_aload_0 rfl ?_
      refine r_getf rfl (o1) (by rfl) ?_
      refine r_ifleF rfl (by rw [upd_eq]; decide) ?_
      refine r_push rfl ?_
      refine r_iret rfl ?_
      rfl
    | true =>
      rw [if_neg (by decide)]
      have f1 := e1
      rw [v.pp.1] at f1
      obtain ⟨i, hi6, rfl⟩ := inF_nI (by have := v.pp.2; omega) f1
      have hi9 : i < 6 := by have := v.pp.2; omega
      have am := actM (ac := ac) (k := k) q (m' := m)
      unfold gRow
      rw [nI_clamp (show i < 2 ^ 31 by omega)]
      refine r_aload_0 rfl ?_
      refine r_aload_0 rfl ?_
      refine r_iload_1 rfl ?_
      refine r_invvP_1 rfl (o) rfl rfl (by decide) (c_mIsPerson q _) ?_
      refine r_ifeqF rfl (by rw [e1]; decide) ?_
      refine r_iload_2 rfl ?_
      refine r_invP_1 rfl rfl (by decide) (c_mIsPlace t) ?_
      refine r_ifneT rfl (by rw [e2]; decide) ?_
      refine r_push rfl ?_
      refine r_puti rfl (o) rfl ?_
      rw [mo_0]
      refine r_aload_0 rfl ?_
      refine r_getf rfl (o3) (by rfl) ?_
      refine r_ifleT rfl (by rw [upd_eq]; decide) ?_
      refine r_aload_0 rfl ?_
      refine r_invvV rfl rfl (o3) rfl rfl (by decide) (c_rem q qa e6 hk) ?_
      refine r_aload_0 rfl ?_
      refine r_iload_1 rfl ?_
      refine r_push rfl ?_
      refine r_invvP_2 rfl (am.1) rfl rfl (by decide) (c_of3 am (by omega)) ?_
      refine r_istore_3 rfl ?_
      refine r_aload_0 rfl ?_
      refine r_iload_1 rfl ?_
      refine r_push rfl ?_
      refine r_iload_2 rfl ?_
      refine r_invvV rfl rfl (am.1) rfl rfl (by decide) (c_pt3 am (by omega)) ?_
      refine r_iload_3 rfl ?_
      refine r_iret rfl ?_
      rw [act1]
      rfl
end
