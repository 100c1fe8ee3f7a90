/-! THE MODEL: rows that are copied, the log, what is added -/
set_option maxRecDepth 100000
/-- so many cells copied -/
def cpN (s d : Nat → Int32) (so dd : Nat) : Nat → Nat → Int32
  | 0 => d
  | j + 1 => upd (cpN s d so dd j) (dd + j) (s (so + j))
theorem cpN_at {s d : Nat → Int32} {so dd : Nat} : ∀ (j k : Nat), cpN s d so dd j k = if dd ≤ k ∧ k < dd + j then s (so + (k - dd)) else d k
  | 0, k => by rw [if_neg (by omega)]; rfl
  | j + 1, k => by
    rw [cpN]
    by_cases c : k = dd + j
    · subst c
      rw [upd_eq, if_pos (by omega)]
      congr 1
      omega
    · rw [upd_ne c, cpN_at j k]
      by_cases z : dd ≤ k ∧ k < dd + j
      · rw [if_pos z, if_pos (by omega)]
      · rw [if_neg z, if_neg (by omega)]
theorem nI_inj {a c : Nat} (ha : a < 2 ^ 31) (hc : c < 2 ^ 31) (e : nI a = nI c) : a = c := by
  have z := congrArg Int32.toNatClampNeg e
  rwa [nI_clamp ha, nI_clamp hc] at z
theorem am_set_comm {h : am_H} {a c : Nat} {e e' : am_C} (n : a ≠ c) : am_set (am_set h a e) c e' = am_set (am_set h c e') a e := by
  unfold am_set
  refine Prod.ext ?_ rfl
  funext i
  show (if i = c then _ else if i = a then _ else _) = (if i = a then _ else if i = c then _ else _)
  by_cases z : i = c
  · by_cases w : i = a
    · exact absurd (w.symm.trans z) n
    · rw [if_pos z, if_neg w, if_pos z]
  · by_cases w : i = a
    · rw [if_neg z, if_pos w, if_pos w]
    · rw [if_neg z, if_neg w, if_neg w, if_neg z]
section
variable {G : am_G} {bs y : Nat} {h : am_H} {g m a ac kp : Nat → Int32}
theorem c_mputsAside (q : MM h y g m) (qa : h.1 (y + 3) = some (.inl (0, 369, .inl a))) : Un G 0 m_X6_putsAside [.ref y] h (am_set h (y + 3) (.inl (0, 369, .inl (cpN m a 0 0 369)))) := by
  refine wc_in mt_X6_putsAside rfl (L := [.ref y, am_un]) rfl ?_
  refine r_push rfl ?_
  refine r_istore_1 rfl ?_
  refine wp_forHK 369 (fun j => [.ref y, .int (nI j)]) (fun j h' => MM h' y g m ∧ h'.1 (y + 3) = some (.inl (0, 369, .inl (cpN m a 0 0 j))) ∧ am_set h (y + 3) (.inl (0, 369, .inl (cpN m a 0 0 j))) = h') (fun j h' hj hK kont => ?_) (fun h' hK => ?_) ⟨q, qa, am_set_id qa⟩
  · obtain ⟨mm, o3, e⟩ := hK
    have o := mm.1; have o1 := mm.2
    refine r_iload_1 rfl ?_
    refine r_push rfl ?_
    refine r_icgeF rfl (by rw [show (369 : Int32) = nI 369 from rfl]; exact nI_lt hj (by decide)) ?_
    refine r_aload_0 rfl ?_
    refine r_getf rfl (by assumption) (by rfl) ?_
    refine r_iload_1 rfl ?_
    refine r_aload_0 rfl ?_
    refine r_getf rfl (by assumption) (by rfl) ?_
    refine r_iload_1 rfl ?_
    refine r_iald rfl (o1) (by rfl) (by first | assumption | omega) (by first | decide | omega) ?_
    refine r_iast rfl (o3) (by rfl) (by first | assumption | omega) (by first | decide | omega) ?_
    refine r_iinc_1 rfl ?_
    refine r_goto rfl ?_
    rw [nI_1]
    refine kont _ ⟨⟨am_set_k mm.1 (by omega), am_set_k mm.2 (by omega)⟩, ?_, ?_⟩
    · rw [am_set_at, cpN, Nat.zero_add]
    · rw [← e, am_set_set, cpN, Nat.zero_add]
  · obtain ⟨mm, o3, e⟩ := hK
    refine r_iload_1 rfl ?_
    refine r_push rfl ?_
    refine r_icgeT rfl (by decide) ?_
    refine r_vret rfl ?_
    rw [e]
theorem c_mcomesBack (q : MM h y g m) (qa : h.1 (y + 3) = some (.inl (0, 369, .inl a))) : Un G 0 m_X6_comesBack [.ref y] h (am_set h (y + 1) (.inl (0, 769, .inl (cpN a m 0 0 369)))) := by
  refine wc_in mt_X6_comesBack rfl (L := [.ref y, am_un]) rfl ?_
  refine r_push rfl ?_
  refine r_istore_1 rfl ?_
  refine wp_forHK 369 (fun j => [.ref y, .int (nI j)]) (fun j h' => MM h' y g (cpN a m 0 0 j) ∧ h'.1 (y + 3) = some (.inl (0, 369, .inl a)) ∧ am_set h (y + 1) (.inl (0, 769, .inl (cpN a m 0 0 j))) = h') (fun j h' hj hK kont => ?_) (fun h' hK => ?_) ⟨q, qa, am_set_id q.2⟩
  · obtain ⟨mm, o3, e⟩ := hK
    have o := mm.1; have o1 := mm.2
    refine r_iload_1 rfl ?_
    refine r_push rfl ?_
    refine r_icgeF rfl (by rw [show (369 : Int32) = nI 369 from rfl]; exact nI_lt hj (by decide)) ?_
    refine r_aload_0 rfl ?_
    refine r_getf rfl (by assumption) (by rfl) ?_
    refine r_iload_1 rfl ?_
    refine r_aload_0 rfl ?_
    refine r_getf rfl (by assumption) (by rfl) ?_
    refine r_iload_1 rfl ?_
    refine r_iald rfl (o3) (by rfl) (by first | assumption | omega) (by first | decide | omega) ?_
    refine r_iast rfl (o1) (by rfl) (by first | assumption | omega) (by first | decide | omega) ?_
    refine r_iinc_1 rfl ?_
    refine r_goto rfl ?_
    rw [nI_1]
    refine kont _ ⟨⟨am_set_k mm.1 (by omega), ?_⟩, am_set_k o3 (by omega), ?_⟩
    · rw [am_set_at, cpN, Nat.zero_add]
    · rw [← e, am_set_set, cpN, Nat.zero_add]
  · obtain ⟨mm, o3, e⟩ := hK
    refine r_iload_1 rfl ?_
    refine r_push rfl ?_
    refine r_icgeT rfl (by decide) ?_
    refine r_vret rfl ?_
    rw [e]
/-- the rows that are remembered -/
def remA (m ac : Nat → Int32) (k : Nat) : Nat → Int32 := if k = 12 then cpN m (cpN ac ac 369 0 4059) 0 4059 369 else cpN m ac 0 (369 * k) 369
def remK (k : Nat) : Nat := if k = 12 then 12 else k + 1
theorem c_mremembers {k : Nat} (q : MM h y g m) (qa : h.1 (y + 4) = some (.inl (0, 4428, .inl ac))) (e6 : g 6 = nI k) (hk : k ≤ 12) : Un G 0 m_X6_remembers [.ref y] h (mh (am_set h (y + 4) (.inl (0, 4428, .inl (remA m ac k)))) y (upd g 6 (nI (remK k)))) := by
  have o := q.1
  refine wc_in mt_X6_remembers rfl (L := [.ref y, am_un]) rfl ?_
  have last : ∀ (k1 : Nat) (ac1 g1 : Nat → Int32) (h1 : am_H) (x1 : Value), MM h1 y g1 m → h1.1 (y + 4) = some (.inl (0, 4428, .inl ac1)) → g1 6 = nI k1 → k1 < 12 → mh (am_set h1 (y + 4) (.inl (0, 4428, .inl (cpN m ac1 0 (369 * k1) 369)))) y (upd g1 6 (nI (k1 + 1))) = mh (am_set h (y + 4) (.inl (0, 4428, .inl (remA m ac k)))) y (upd g 6 (nI (remK k))) → Wp G 0 mt_X6_remembers 50 [.ref y, x1] [] h1 (fun R => R = .inl (none, mh (am_set h (y + 4) (.inl (0, 4428, .inl (remA m ac k)))) y (upd g 6 (nI (remK k))))) := by
    intro k1 ac1 g1 h1 x1 q1 qa1 e61 hk1 eh
    refine r_push rfl ?_
    refine r_istore_1 rfl ?_
    refine wp_forHK 369 (fun j => [.ref y, .int (nI j)]) (fun j h' => MM h' y g1 m ∧ h'.1 (y + 4) = some (.inl (0, 4428, .inl (cpN m ac1 0 (369 * k1) j))) ∧ am_set h1 (y + 4) (.inl (0, 4428, .inl (cpN m ac1 0 (369 * k1) j))) = h') (fun j h' hj hK kont => ?_) (fun h' hK => ?_) ⟨q1, qa1, am_set_id qa1⟩
    · obtain ⟨mm, o3, e⟩ := hK
      have o := mm.1; have o1 := mm.2
      refine r_iload_1 rfl ?_
      refine r_push rfl ?_
      refine r_icgeF rfl (by rw [show (369 : Int32) = nI 369 from rfl]; exact nI_lt hj (by decide)) ?_
      refine r_aload_0 rfl ?_
      refine r_getf rfl (by assumption) (by rfl) ?_
      refine r_push rfl ?_
      refine r_aload_0 rfl ?_
      refine r_getf rfl (by assumption) (by rfl) ?_
      refine r_imul rfl ?_
      refine r_iload_1 rfl ?_
      refine r_iadd rfl ?_
      refine r_aload_0 rfl ?_
      refine r_getf rfl (by assumption) (by rfl) ?_
      refine r_iload_1 rfl ?_
      refine r_iald rfl (o1) (by rfl) (by first | assumption | omega) (by first | decide | omega) ?_
      refine r_iast rfl (o3) (show (369 : Int32) * g1 6 + nI j = nI (369 * k1 + j) by rw [e61, show (369 : Int32) = nI 369 from rfl, nI_mul, nI_add]) (by first | assumption | omega) (by first | decide | omega) ?_
      refine r_iinc_1 rfl ?_
      refine r_goto rfl ?_
      rw [nI_1]
      refine kont _ ⟨⟨am_set_k mm.1 (by omega), am_set_k mm.2 (by omega)⟩, ?_, ?_⟩
      · rw [am_set_at, cpN, Nat.zero_add]
      · rw [← e, am_set_set, cpN, Nat.zero_add]
    · obtain ⟨mm, o3, e⟩ := hK
      have o := mm.1
      refine r_iload_1 rfl ?_
      refine r_push rfl ?_
      refine r_icgeT rfl (by decide) ?_
      refine r_aload_0 rfl ?_
      refine r_dupR rfl ?_
      refine r_getf rfl (by assumption) (by rfl) ?_
      refine r_push rfl ?_
      refine r_iadd rfl ?_
      refine r_puti rfl (by assumption) rfl ?_
      refine r_vret rfl ?_
      rw [mo_6, e61, nI_1, ← eh, ← e]
  refine r_aload_0 rfl ?_
  refine r_getf rfl o rfl ?_
  refine r_push rfl ?_
  by_cases c : k = 12
  · subst c
    refine r_icneF rfl e6 ?_
    refine r_push rfl ?_
    refine r_istore_1 rfl ?_
    refine wp_forHK 4059 (fun j => [.ref y, .int (nI j)]) (fun j h' => MM h' y g m ∧ h'.1 (y + 4) = some (.inl (0, 4428, .inl (cpN ac ac 369 0 j))) ∧ am_set h (y + 4) (.inl (0, 4428, .inl (cpN ac ac 369 0 j))) = h') (fun j h' hj hK kont => ?_) (fun h' hK => ?_) ⟨q, qa, am_set_id qa⟩
    · obtain ⟨mm, o3, e⟩ := hK
      have o := mm.1; have o1 := mm.2
      have ej : cpN ac ac 369 0 j (j + 369) = ac (369 + j) := by rw [cpN_at, if_neg (by omega), Nat.add_comm]
      refine r_iload_1 rfl ?_
      refine r_push rfl ?_
      refine r_icgeF rfl (by rw [show (4059 : Int32) = nI 4059 from rfl]; exact nI_lt hj (by decide)) ?_
      refine r_aload_0 rfl ?_
      refine r_getf rfl (by assumption) (by rfl) ?_
      refine r_iload_1 rfl ?_
      refine r_aload_0 rfl ?_
      refine r_getf rfl (by assumption) (by rfl) ?_
      refine r_iload_1 rfl ?_
      refine r_push rfl ?_
      refine r_iadd rfl ?_
      refine r_iald rfl (o3) (show nI j + 369 = nI (j + 369) from nI_add _ _) (by first | assumption | omega) (by first | decide | omega) ?_
      refine r_iast rfl (o3) (by rfl) (by first | assumption | omega) (by first | decide | omega) ?_
      refine r_iinc_1 rfl ?_
      refine r_goto rfl ?_
      rw [nI_1, ej]
      refine kont _ ⟨⟨am_set_k mm.1 (by omega), am_set_k mm.2 (by omega)⟩, ?_, ?_⟩
      · rw [am_set_at, cpN, Nat.zero_add]
      · rw [← e, am_set_set, cpN, Nat.zero_add]
    · obtain ⟨mm, o3, e⟩ := hK
      have o := mm.1
      refine r_iload_1 rfl ?_
      refine r_push rfl ?_
      refine r_icgeT rfl (by decide) ?_
      refine r_aload_0 rfl ?_
      refine r_dupR rfl ?_
      refine r_getf rfl (by assumption) (by rfl) ?_
      refine r_push rfl ?_
      refine r_isub rfl ?_
      refine r_puti rfl (by assumption) rfl ?_
      rw [mo_6, e6, show nI 12 - 1 = nI 11 from rfl]
      refine last 11 (cpN ac ac 369 0 4059) (upd g 6 (nI 11)) _ _ ⟨am_set_at, am_set_k mm.2 (by omega)⟩ (am_set_k o3 (by omega)) upd_eq (by decide) ?_
      rw [← e]
      unfold remA remK mh
      rw [if_pos rfl, if_pos rfl, am_set_comm (a := y) (c := y + 4) (by omega), am_set_set, am_set_set, upd_upd]
  · refine r_icneT rfl (by rw [e6]; exact fun z => c (nI_inj (by omega) (by decide) z)) ?_
    refine last k ac g h _ q qa e6 (by omega) ?_
    unfold remA remK
    rw [if_neg c, if_neg c]
/-- the log moved on, so far -/
def lgN (m : Nat → Int32) (j : Nat) : Nat → Int32 := fun t => if 369 - j ≤ t ∧ t < 369 then m (t - 4) else m t
theorem lgN_up {m : Nat → Int32} {j : Nat} (hj : j < 236) : upd (lgN m j) (368 - j) (lgN m j (364 - j)) = lgN m (j + 1) := by
  funext t
  unfold lgN
  by_cases c : t = 368 - j
  · subst c
    rw [upd_eq, if_neg (by omega), if_pos (by omega)]
    congr 1
    omega
  · rw [upd_ne c]
    by_cases z : 369 - j ≤ t ∧ t < 369
    · rw [if_pos z, if_pos (by omega)]
    · rw [if_neg z, if_neg (by omega)]
theorem lgN_tl {m : Nat → Int32} {z what n : Int32} : upd (upd (upd (upd (upd (lgN m 236) 129 (lgN m 236 5)) 130 z) 131 what) 132 n) 7 (minF 60 (upd (upd (upd (upd (lgN m 236) 129 (lgN m 236 5)) 130 z) 131 what) 132 n 7 + 1)) = tlF m z what n := by
  funext t
  unfold tlF
  by_cases c7 : t = 7
  · subst c7; rfl
  · rw [upd_ne c7, if_neg c7]
    by_cases c1 : t = 132
    · subst c1; rfl
    · rw [upd_ne c1]
      by_cases c2 : t = 131
      · subst c2; rfl
      · rw [upd_ne c2]
        by_cases c3 : t = 130
        · subst c3; rfl
        · rw [upd_ne c3]
          by_cases c4 : t = 129
          · subst c4; rfl
          · rw [upd_ne c4, if_neg c4, if_neg c3, if_neg c2, if_neg c1]
            unfold lgN
            by_cases w : 133 ≤ t ∧ t < 369
            · rw [if_pos w]
            · rw [if_neg w]
theorem dec1 {a c : Nat} (h : 1 ≤ a) (e : a - 1 = c) : nI a + -1 = nI c := by
  rw [← e, ← nI_sub h, Int32.sub_eq_add_neg]
  rfl
theorem c_mlogs (q : MM h y g m) (z what n : Int32) : Un G 1 m_X6_logs [.ref y, .int z, .int what, .int n] h (am_set h (y + 1) (.inl (0, 769, .inl (tlF m z what n)))) := by
  refine wc_in mt_X6_logs rfl (L := [.ref y, .int z, .int what, .int n, am_un]) rfl ?_
  refine r_push rfl ?_
  refine r_istore_4 rfl ?_
  have e0 : lgN m 0 = m := by funext t; unfold lgN; rw [if_neg (by omega)]
  refine wp_forHK 236 (fun j => [.ref y, .int z, .int what, .int n, .int (nI (239 - j))]) (fun j h' => MM h' y g (lgN m j) ∧ am_set h (y + 1) (.inl (0, 769, .inl (lgN m j))) = h') (fun j h' hj hK kont => ?_) (fun h' hK => ?_) ⟨by rw [e0]; exact q, by rw [e0]; exact am_set_id q.2⟩
  · obtain ⟨mm, e⟩ := hK
    have o := mm.1; have o1 := mm.2
    refine r_iload_4 rfl ?_
    refine r_push rfl ?_
    refine r_icltF rfl (by rw [show (4 : Int32) = nI 4 from rfl]; exact nI_le (by omega) (by omega)) ?_
    refine r_aload_0 rfl ?_
    refine r_getf rfl (by assumption) (by rfl) ?_
    refine r_push rfl ?_
    refine r_iload_4 rfl ?_
    refine r_iadd rfl ?_
    refine r_aload_0 rfl ?_
    refine r_getf rfl (by assumption) (by rfl) ?_
    refine r_push rfl ?_
    refine r_iload_4 rfl ?_
    refine r_iadd rfl ?_
    refine r_push rfl ?_
    refine r_isub rfl ?_
    refine r_iald rfl (o1) (show (129 : Int32) + nI (239 - j) - 4 = nI (364 - j) by rw [show (129 : Int32) = nI 129 from rfl, nI_add, show (4 : Int32) = nI 4 from rfl, nI_sub (by omega)]; congr 1; omega) (by first | assumption | omega) (by first | decide | omega) ?_
    refine r_iast rfl (o1) (show (129 : Int32) + nI (239 - j) = nI (368 - j) by rw [show (129 : Int32) = nI 129 from rfl, nI_add]; congr 1; omega) (by first | assumption | omega) (by first | decide | omega) ?_
    refine r_iinc_4 rfl ?_
    refine r_goto rfl ?_
    rw [lgN_up hj]
    rw [dec1 (by omega) (show 239 - j - 1 = 239 - (j + 1) by omega)]
    exact kont _ ⟨mm.set, by rw [← e, am_set_set]⟩
  · obtain ⟨mm, e⟩ := hK
    have o := mm.1; have o1 := mm.2
    refine r_iload_4 rfl ?_
    refine r_push rfl ?_
    refine r_icltT rfl (by decide) ?_
    refine r_aload_0 rfl ?_
    refine r_getf rfl o rfl ?_
    refine r_push rfl ?_
    refine r_aload_0 rfl ?_
    refine r_getf rfl o rfl ?_
    refine r_push rfl ?_
    refine r_iald rfl o1 (show (5 : Int32) = nI 5 from rfl) (by decide) (by decide) ?_
    refine r_iast rfl o1 (show (129 : Int32) = nI 129 from rfl) (by decide) (by decide) ?_
    refine r_aload_0 rfl ?_
    refine r_getf rfl mm.set.1 rfl ?_
    refine r_push rfl ?_
    refine r_iload_1 rfl ?_
    refine r_iast rfl am_set_at (show (130 : Int32) = nI 130 from rfl) (by decide) (by decide) ?_
    rw [am_set_set]
    refine r_aload_0 rfl ?_
    refine r_getf rfl mm.set.1 rfl ?_
    refine r_push rfl ?_
    refine r_iload_2 rfl ?_
    refine r_iast rfl am_set_at (show (131 : Int32) = nI 131 from rfl) (by decide) (by decide) ?_
    rw [am_set_set]
    refine r_aload_0 rfl ?_
    refine r_getf rfl mm.set.1 rfl ?_
    refine r_push rfl ?_
    refine r_iload_3 rfl ?_
    refine r_iast rfl am_set_at (show (132 : Int32) = nI 132 from rfl) (by decide) (by decide) ?_
    rw [am_set_set]
    refine r_aload_0 rfl ?_
    refine r_getf rfl mm.set.1 rfl ?_
    refine r_push rfl ?_
    refine r_push rfl ?_
    refine r_aload_0 rfl ?_
    refine r_getf rfl mm.set.1 rfl ?_
    refine r_push rfl ?_
    refine r_iald rfl am_set_at (show (7 : Int32) = nI 7 from rfl) (by decide) (by decide) ?_
    refine r_push rfl ?_
    refine r_iadd rfl ?_
    refine r_invP_2 rfl rfl (by decide) (c_lesser _ _) ?_
    refine r_iast rfl am_set_at (show (7 : Int32) = nI 7 from rfl) (by decide) (by decide) ?_
    rw [am_set_set, lgN_tl]
    refine r_vret rfl ?_
    rw [← e, am_set_set]
/-- from purse to purse -/
def mvF (m : Nat → Int32) (a c : Nat) (n : Int32) : Nat → Int32 := upd (upd m (33 + 6 * a) (m (33 + 6 * a) - n)) (33 + 6 * c) (minF 9999 (upd m (33 + 6 * a) (m (33 + 6 * a) - n) (33 + 6 * c) + n))
theorem c_mmoves (q : MM h y g m) {p r : Nat} (hp : p < 6) (hr : r < 6) (n : Int32) : Un G 1 m_X6_moves [.ref y, .int (nI p), .int (nI r), .int n] h (am_set h (y + 1) (.inl (0, 769, .inl (mvF m p r n)))) := by
  have o := q.1
  refine wc_in mt_X6_moves rfl (L := [.ref y, .int (nI p), .int (nI r), .int n]) rfl ?_
  refine r_aload_0 rfl ?_
  refine r_iload_1 rfl ?_
  refine r_push rfl ?_
  refine r_aload_0 rfl ?_
  refine r_iload_1 rfl ?_
  refine r_push rfl ?_
  refine r_invvP_2 rfl (by assumption) rfl rfl (by decide) (c_of0 q (by omega)) ?_
  refine r_iload_3 rfl ?_
  refine r_isub rfl ?_
  refine r_invvV rfl rfl (by assumption) rfl rfl (by decide) (c_pt0 q (by omega)) ?_
  refine r_aload_0 rfl ?_
  refine r_iload_2 rfl ?_
  refine r_push rfl ?_
  refine r_push rfl ?_
  refine r_aload_0 rfl ?_
  refine r_iload_2 rfl ?_
  refine r_push rfl ?_
  refine r_invvP_2 rfl q.set.1 rfl rfl (by decide) (c_of0 q.set (by omega)) ?_
  refine r_iload_3 rfl ?_
  refine r_iadd rfl ?_
  refine r_invP_2 rfl rfl (by decide) (c_lesser _ _) ?_
  refine r_invvV rfl rfl q.set.1 rfl rfl (by decide) (c_pt0 q.set (by omega)) ?_
  rw [am_set_set]
  refine r_vret rfl ?_
  rfl
theorem c_madds (q : MM h y g m) {s : Nat} (hs : s < 10) (e4 : m 4 = nI s) (who whom n worn : Int32) : Un G 1 m_X6_adds [.ref y, .int who, .int whom, .int n, .int worn] h (am_set h (y + 1) (.inl (0, 769, .inl (adF m who whom n worn)))) := by
  have o := q.1; have o1 := q.2
  have ec : (m 4).toNatClampNeg = s := by rw [e4]; exact nI_clamp (by omega)
  refine wc_in mt_X6_adds rfl (L := [.ref y, .int who, .int whom, .int n, .int worn, am_un]) rfl ?_
  refine r_aload_0 rfl ?_
  refine r_getf rfl o rfl ?_
  refine r_push rfl ?_
  refine r_iald rfl o1 (show (4 : Int32) = nI 4 from rfl) (by decide) (by decide) ?_
  rw [e4]
  refine r_istore_5 rfl ?_
  refine r_aload_0 rfl ?_
  refine r_iload_5 rfl ?_
  refine r_push rfl ?_
  refine r_iload_1 rfl ?_
  refine r_invvV rfl rfl q.1 rfl rfl (by decide) (c_ps0 q (by omega)) ?_
  refine r_aload_0 rfl ?_
  refine r_iload_5 rfl ?_
  refine r_push rfl ?_
  refine r_iload_2 rfl ?_
  refine r_invvV rfl rfl q.set.1 rfl rfl (by decide) (c_ps1 q.set (by omega)) ?_
  rw [am_set_set]
  refine r_aload_0 rfl ?_
  refine r_iload_5 rfl ?_
  refine r_push rfl ?_
  refine r_iload_3 rfl ?_
  refine r_invvV rfl rfl q.set.1 rfl rfl (by decide) (c_ps2 q.set (by omega)) ?_
  rw [am_set_set]
  refine r_aload_0 rfl ?_
  refine r_iload_5 rfl ?_
  refine r_push rfl ?_
  refine r_push rfl ?_
  refine r_invvV rfl rfl q.set.1 rfl rfl (by decide) (c_ps3 q.set (by omega)) ?_
  rw [am_set_set]
  refine r_aload_0 rfl ?_
  refine r_iload_5 rfl ?_
  refine r_push rfl ?_
  refine r_iload_4 rfl ?_
  refine r_invvV rfl rfl q.set.1 rfl rfl (by decide) (c_ps4 q.set (by omega)) ?_
  rw [am_set_set]
  refine r_aload_0 rfl ?_
  refine r_iload_5 rfl ?_
  refine r_push rfl ?_
  refine r_push rfl ?_
  refine r_invvV rfl rfl q.set.1 rfl rfl (by decide) (c_ps5 q.set (by omega)) ?_
  rw [am_set_set]
  refine r_aload_0 rfl ?_
  refine r_getf rfl q.set.1 rfl ?_
  refine r_push rfl ?_
  refine r_dup2 rfl ?_
  refine r_iald rfl am_set_at (show (4 : Int32) = nI 4 from rfl) (by decide) (by decide) ?_
  refine r_push rfl ?_
  refine r_iadd rfl ?_
  refine r_iast rfl am_set_at (show (4 : Int32) = nI 4 from rfl) (by decide) (by decide) ?_
  rw [am_set_set]
  refine r_vret rfl ?_
  have e : ∀ {k : Nat} {v : Int32} {f : Nat → Int32}, k ≠ 4 → upd f k v 4 = f 4 := fun hk => upd_ne (Ne.symm hk)
  rw [e (by omega), e (by omega), e (by omega), e (by omega), e (by omega), e (by omega)]
  unfold adF
  rw [ec]
end
