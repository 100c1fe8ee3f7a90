/-! THE MODEL's row: what its reading methods answer -/
set_option maxRecDepth 100000
theorem nI_mul (a b : Nat) : nI a * nI b = nI (a * b) := (Int32.ofNat_mul a b).symm
/-- the model at y has the numbers g and the row m -/
def MM (h : am_H) (y : Nat) (g m : Nat → Int32) : Prop := h.1 y = some (mcell y g) ∧ h.1 (y + 1) = some (.inl (0, 769, .inl m))
theorem is01 {x : Int32} (q : isB x 2) : x = 1 ↔ ¬ x = 0 := by
  obtain ⟨k, hk, rfl⟩ := q
  rcases (show k = 0 ∨ k = 1 by omega) with rfl | rfl <;> decide
section
variable {h : am_H} {y : Nat} {g m : Nat → Int32} {G : am_G} {p : Nat}
theorem c_mOf {k : Nat} {c : Int32} (q : MM h y g m) (hc : c = nI k) (hp : 33 + 6 * p + k < 769) : Vc G 0 m_X6_of [.ref y, .int (nI p), .int c] h (.int (m (33 + 6 * p + k))) := by
  obtain ⟨o, o1⟩ := q
  subst hc
  refine wc_in mt_X6_of rfl (L := [.ref y, .int (nI p), .int (nI k)]) rfl ?_
  refine r_aload_0 rfl ?_
  refine r_getf rfl o rfl ?_
  refine r_push rfl ?_
  refine r_push rfl ?_
  refine r_iload_1 rfl ?_
  refine r_imul rfl ?_
  refine r_iadd rfl ?_
  refine r_iload_2 rfl ?_
  refine r_iadd rfl ?_
  rw [show (6 : Int32) = nI 6 from rfl, show (33 : Int32) = nI 33 from rfl, nI_mul, nI_add, nI_add]
  refine r_iald rfl o1 rfl hp (by decide) ?_
  exact r_iret rfl rfl
theorem c_mPut {k : Nat} {c v : Int32} (q : MM h y g m) (hc : c = nI k) (hp : 33 + 6 * p + k < 769) : Un G 0 m_X6_put [.ref y, .int (nI p), .int c, .int v] h (am_set h (y + 1) (.inl (0, 769, .inl (upd m (33 + 6 * p + k) v)))) := by
  obtain ⟨o, o1⟩ := q
  subst hc
  refine wc_in mt_X6_put rfl (L := [.ref y, .int (nI p), .int (nI k), .int v]) rfl ?_
  refine r_aload_0 rfl ?_
  refine r_getf rfl o rfl ?_
  refine r_push rfl ?_
  refine r_push rfl ?_
  refine r_iload_1 rfl ?_
  refine r_imul rfl ?_
  refine r_iadd rfl ?_
  refine r_iload_2 rfl ?_
  refine r_iadd rfl ?_
  rw [show (6 : Int32) = nI 6 from rfl, show (33 : Int32) = nI 33 from rfl, nI_mul, nI_add, nI_add]
  refine r_iload_3 rfl ?_
  refine r_iast rfl o1 rfl hp (by decide) ?_
  exact r_vret rfl rfl
theorem c_mOfS {k : Nat} {c : Int32} (q : MM h y g m) (hc : c = nI k) (hp : 69 + 6 * p + k < 769) : Vc G 0 m_X6_ofStone [.ref y, .int (nI p), .int c] h (.int (m (69 + 6 * p + k))) := by
  obtain ⟨o, o1⟩ := q
  subst hc
  refine wc_in mt_X6_ofStone rfl (L := [.ref y, .int (nI p), .int (nI k)]) rfl ?_
  refine r_aload_0 rfl ?_
  refine r_getf rfl o rfl ?_
  refine r_push rfl ?_
  refine r_push rfl ?_
  refine r_iload_1 rfl ?_
  refine r_imul rfl ?_
  refine r_iadd rfl ?_
  refine r_iload_2 rfl ?_
  refine r_iadd rfl ?_
  rw [show (6 : Int32) = nI 6 from rfl, show (69 : Int32) = nI 69 from rfl, nI_mul, nI_add, nI_add]
  refine r_iald rfl o1 rfl hp (by decide) ?_
  exact r_iret rfl rfl
theorem c_mPutS {k : Nat} {c v : Int32} (q : MM h y g m) (hc : c = nI k) (hp : 69 + 6 * p + k < 769) : Un G 0 m_X6_putStone [.ref y, .int (nI p), .int c, .int v] h (am_set h (y + 1) (.inl (0, 769, .inl (upd m (69 + 6 * p + k) v)))) := by
  obtain ⟨o, o1⟩ := q
  subst hc
  refine wc_in mt_X6_putStone rfl (L := [.ref y, .int (nI p), .int (nI k), .int v]) rfl ?_
  refine r_aload_0 rfl ?_
  refine r_getf rfl o rfl ?_
  refine r_push rfl ?_
  refine r_push rfl ?_
  refine r_iload_1 rfl ?_
  refine r_imul rfl ?_
  refine r_iadd rfl ?_
  refine r_iload_2 rfl ?_
  refine r_iadd rfl ?_
  rw [show (6 : Int32) = nI 6 from rfl, show (69 : Int32) = nI 69 from rfl, nI_mul, nI_add, nI_add]
  refine r_iload_3 rfl ?_
  refine r_iast rfl o1 rfl hp (by decide) ?_
  exact r_vret rfl rfl
theorem c_of0 (q : MM h y g m) (hp : p < 100) : Vc G 0 m_X6_of [.ref y, .int (nI p), .int 0] h (.int (m (33 + 6 * p))) := by
  have := c_mOf (G := G) (k := 0) (c := 0) q rfl (show 33 + 6 * p + 0 < 769 by omega)
  rwa [show 33 + 6 * p + 0 = 33 + 6 * p by omega] at this
theorem c_os0 (q : MM h y g m) (hp : p < 100) : Vc G 0 m_X6_ofStone [.ref y, .int (nI p), .int 0] h (.int (m (69 + 6 * p))) := by
  have := c_mOfS (G := G) (k := 0) (c := 0) q rfl (show 69 + 6 * p + 0 < 769 by omega)
  rwa [show 69 + 6 * p + 0 = 69 + 6 * p by omega] at this
theorem c_pt0 {v : Int32} (q : MM h y g m) (hp : p < 100) : Un G 0 m_X6_put [.ref y, .int (nI p), .int 0, .int v] h (am_set h (y + 1) (.inl (0, 769, .inl (upd m (33 + 6 * p) v)))) := by
  have := c_mPut (G := G) (k := 0) (c := 0) (v := v) q rfl (show 33 + 6 * p + 0 < 769 by omega)
  rwa [show 33 + 6 * p + 0 = 33 + 6 * p by omega] at this
theorem c_ps0 {v : Int32} (q : MM h y g m) (hp : p < 100) : Un G 0 m_X6_putStone [.ref y, .int (nI p), .int 0, .int v] h (am_set h (y + 1) (.inl (0, 769, .inl (upd m (69 + 6 * p) v)))) := by
  have := c_mPutS (G := G) (k := 0) (c := 0) (v := v) q rfl (show 69 + 6 * p + 0 < 769 by omega)
  rwa [show 69 + 6 * p + 0 = 69 + 6 * p by omega] at this
theorem c_of1 (q : MM h y g m) (hp : p < 100) : Vc G 0 m_X6_of [.ref y, .int (nI p), .int 1] h (.int (m (34 + 6 * p))) := by
  have := c_mOf (G := G) (k := 1) (c := 1) q rfl (show 33 + 6 * p + 1 < 769 by omega)
  rwa [show 33 + 6 * p + 1 = 34 + 6 * p by omega] at this
theorem c_os1 (q : MM h y g m) (hp : p < 100) : Vc G 0 m_X6_ofStone [.ref y, .int (nI p), .int 1] h (.int (m (70 + 6 * p))) := by
  have := c_mOfS (G := G) (k := 1) (c := 1) q rfl (show 69 + 6 * p + 1 < 769 by omega)
  rwa [show 69 + 6 * p + 1 = 70 + 6 * p by omega] at this
theorem c_pt1 {v : Int32} (q : MM h y g m) (hp : p < 100) : Un G 0 m_X6_put [.ref y, .int (nI p), .int 1, .int v] h (am_set h (y + 1) (.inl (0, 769, .inl (upd m (34 + 6 * p) v)))) := by
  have := c_mPut (G := G) (k := 1) (c := 1) (v := v) q rfl (show 33 + 6 * p + 1 < 769 by omega)
  rwa [show 33 + 6 * p + 1 = 34 + 6 * p by omega] at this
theorem c_ps1 {v : Int32} (q : MM h y g m) (hp : p < 100) : Un G 0 m_X6_putStone [.ref y, .int (nI p), .int 1, .int v] h (am_set h (y + 1) (.inl (0, 769, .inl (upd m (70 + 6 * p) v)))) := by
  have := c_mPutS (G := G) (k := 1) (c := 1) (v := v) q rfl (show 69 + 6 * p + 1 < 769 by omega)
  rwa [show 69 + 6 * p + 1 = 70 + 6 * p by omega] at this
theorem c_of2 (q : MM h y g m) (hp : p < 100) : Vc G 0 m_X6_of [.ref y, .int (nI p), .int 2] h (.int (m (35 + 6 * p))) := by
  have := c_mOf (G := G) (k := 2) (c := 2) q rfl (show 33 + 6 * p + 2 < 769 by omega)
  rwa [show 33 + 6 * p + 2 = 35 + 6 * p by omega] at this
theorem c_os2 (q : MM h y g m) (hp : p < 100) : Vc G 0 m_X6_ofStone [.ref y, .int (nI p), .int 2] h (.int (m (71 + 6 * p))) := by
  have := c_mOfS (G := G) (k := 2) (c := 2) q rfl (show 69 + 6 * p + 2 < 769 by omega)
  rwa [show 69 + 6 * p + 2 = 71 + 6 * p by omega] at this
theorem c_pt2 {v : Int32} (q : MM h y g m) (hp : p < 100) : Un G 0 m_X6_put [.ref y, .int (nI p), .int 2, .int v] h (am_set h (y + 1) (.inl (0, 769, .inl (upd m (35 + 6 * p) v)))) := by
  have := c_mPut (G := G) (k := 2) (c := 2) (v := v) q rfl (show 33 + 6 * p + 2 < 769 by omega)
  rwa [show 33 + 6 * p + 2 = 35 + 6 * p by omega] at this
theorem c_ps2 {v : Int32} (q : MM h y g m) (hp : p < 100) : Un G 0 m_X6_putStone [.ref y, .int (nI p), .int 2, .int v] h (am_set h (y + 1) (.inl (0, 769, .inl (upd m (71 + 6 * p) v)))) := by
  have := c_mPutS (G := G) (k := 2) (c := 2) (v := v) q rfl (show 69 + 6 * p + 2 < 769 by omega)
  rwa [show 69 + 6 * p + 2 = 71 + 6 * p by omega] at this
theorem c_of3 (q : MM h y g m) (hp : p < 100) : Vc G 0 m_X6_of [.ref y, .int (nI p), .int 3] h (.int (m (36 + 6 * p))) := by
  have := c_mOf (G := G) (k := 3) (c := 3) q rfl (show 33 + 6 * p + 3 < 769 by omega)
  rwa [show 33 + 6 * p + 3 = 36 + 6 * p by omega] at this
theorem c_os3 (q : MM h y g m) (hp : p < 100) : Vc G 0 m_X6_ofStone [.ref y, .int (nI p), .int 3] h (.int (m (72 + 6 * p))) := by
  have := c_mOfS (G := G) (k := 3) (c := 3) q rfl (show 69 + 6 * p + 3 < 769 by omega)
  rwa [show 69 + 6 * p + 3 = 72 + 6 * p by omega] at this
theorem c_pt3 {v : Int32} (q : MM h y g m) (hp : p < 100) : Un G 0 m_X6_put [.ref y, .int (nI p), .int 3, .int v] h (am_set h (y + 1) (.inl (0, 769, .inl (upd m (36 + 6 * p) v)))) := by
  have := c_mPut (G := G) (k := 3) (c := 3) (v := v) q rfl (show 33 + 6 * p + 3 < 769 by omega)
  rwa [show 33 + 6 * p + 3 = 36 + 6 * p by omega] at this
theorem c_ps3 {v : Int32} (q : MM h y g m) (hp : p < 100) : Un G 0 m_X6_putStone [.ref y, .int (nI p), .int 3, .int v] h (am_set h (y + 1) (.inl (0, 769, .inl (upd m (72 + 6 * p) v)))) := by
  have := c_mPutS (G := G) (k := 3) (c := 3) (v := v) q rfl (show 69 + 6 * p + 3 < 769 by omega)
  rwa [show 69 + 6 * p + 3 = 72 + 6 * p by omega] at this
theorem c_of4 (q : MM h y g m) (hp : p < 100) : Vc G 0 m_X6_of [.ref y, .int (nI p), .int 4] h (.int (m (37 + 6 * p))) := by
  have := c_mOf (G := G) (k := 4) (c := 4) q rfl (show 33 + 6 * p + 4 < 769 by omega)
  rwa [show 33 + 6 * p + 4 = 37 + 6 * p by omega] at this
theorem c_os4 (q : MM h y g m) (hp : p < 100) : Vc G 0 m_X6_ofStone [.ref y, .int (nI p), .int 4] h (.int (m (73 + 6 * p))) := by
  have := c_mOfS (G := G) (k := 4) (c := 4) q rfl (show 69 + 6 * p + 4 < 769 by omega)
  rwa [show 69 + 6 * p + 4 = 73 + 6 * p by omega] at this
theorem c_pt4 {v : Int32} (q : MM h y g m) (hp : p < 100) : Un G 0 m_X6_put [.ref y, .int (nI p), .int 4, .int v] h (am_set h (y + 1) (.inl (0, 769, .inl (upd m (37 + 6 * p) v)))) := by
  have := c_mPut (G := G) (k := 4) (c := 4) (v := v) q rfl (show 33 + 6 * p + 4 < 769 by omega)
  rwa [show 33 + 6 * p + 4 = 37 + 6 * p by omega] at this
theorem c_ps4 {v : Int32} (q : MM h y g m) (hp : p < 100) : Un G 0 m_X6_putStone [.ref y, .int (nI p), .int 4, .int v] h (am_set h (y + 1) (.inl (0, 769, .inl (upd m (73 + 6 * p) v)))) := by
  have := c_mPutS (G := G) (k := 4) (c := 4) (v := v) q rfl (show 69 + 6 * p + 4 < 769 by omega)
  rwa [show 69 + 6 * p + 4 = 73 + 6 * p by omega] at this
theorem c_of5 (q : MM h y g m) (hp : p < 100) : Vc G 0 m_X6_of [.ref y, .int (nI p), .int 5] h (.int (m (38 + 6 * p))) := by
  have := c_mOf (G := G) (k := 5) (c := 5) q rfl (show 33 + 6 * p + 5 < 769 by omega)
  rwa [show 33 + 6 * p + 5 = 38 + 6 * p by omega] at this
theorem c_os5 (q : MM h y g m) (hp : p < 100) : Vc G 0 m_X6_ofStone [.ref y, .int (nI p), .int 5] h (.int (m (74 + 6 * p))) := by
  have := c_mOfS (G := G) (k := 5) (c := 5) q rfl (show 69 + 6 * p + 5 < 769 by omega)
  rwa [show 69 + 6 * p + 5 = 74 + 6 * p by omega] at this
theorem c_pt5 {v : Int32} (q : MM h y g m) (hp : p < 100) : Un G 0 m_X6_put [.ref y, .int (nI p), .int 5, .int v] h (am_set h (y + 1) (.inl (0, 769, .inl (upd m (38 + 6 * p) v)))) := by
  have := c_mPut (G := G) (k := 5) (c := 5) (v := v) q rfl (show 33 + 6 * p + 5 < 769 by omega)
  rwa [show 33 + 6 * p + 5 = 38 + 6 * p by omega] at this
theorem c_ps5 {v : Int32} (q : MM h y g m) (hp : p < 100) : Un G 0 m_X6_putStone [.ref y, .int (nI p), .int 5, .int v] h (am_set h (y + 1) (.inl (0, 769, .inl (upd m (74 + 6 * p) v)))) := by
  have := c_mPutS (G := G) (k := 5) (c := 5) (v := v) q rfl (show 69 + 6 * p + 5 < 769 by omega)
  rwa [show 69 + 6 * p + 5 = 74 + 6 * p by omega] at this
theorem MM.set (q : MM h y g m) {m' : Nat → Int32} : MM (am_set h (y + 1) (.inl (0, 769, .inl m'))) y g m' := ⟨am_set_k q.1 (by omega), am_set_at⟩
theorem c_mIsPerson (q : MM h y g m) (x : Int32) : Vc G 1 m_X6_isPerson [.ref y, .int x] h (.int (bI (inF x 0 (m 3 - 1)))) := by
  obtain ⟨o, o1⟩ := q
  refine wc_in mt_X6_isPerson rfl (L := [.ref y, .int x]) rfl ?_
  refine r_iload_1 rfl ?_
  refine r_push rfl ?_
  refine r_aload_0 rfl ?_
  refine r_getf rfl (by assumption) (by rfl) ?_
  refine r_push rfl ?_
  refine r_iald rfl (o1) (show (3 : Int32) = nI 3 from rfl) (by first | assumption | omega) (by first | decide | omega) ?_
  refine r_push rfl ?_
  refine r_isub rfl ?_
  refine r_invP_3 rfl rfl (by decide) (c_isIn _ _ _) ?_
  refine r_zret rfl (bI_01 _) ?_
  rfl
theorem c_mIsStone (q : MM h y g m) (x : Int32) : Vc G 1 m_X6_isStone [.ref y, .int x] h (.int (bI (inF x 0 (m 4 - 1)))) := by
  obtain ⟨o, o1⟩ := q
  refine wc_in mt_X6_isStone rfl (L := [.ref y, .int x]) rfl ?_
  refine r_iload_1 rfl ?_
  refine r_push rfl ?_
  refine r_aload_0 rfl ?_
  refine r_getf rfl (by assumption) (by rfl) ?_
  refine r_push rfl ?_
  refine r_iald rfl (o1) (show (4 : Int32) = nI 4 from rfl) (by first | assumption | omega) (by first | decide | omega) ?_
  refine r_push rfl ?_
  refine r_isub rfl ?_
  refine r_invP_3 rfl rfl (by decide) (c_isIn _ _ _) ?_
  refine r_zret rfl (bI_01 _) ?_
  rfl
theorem c_mIsPlace (x : Int32) : Vc G 1 m_X6_isPlace [.int x] h (.int (bI (inF x 0 11))) := by
  refine wc_in mt_X6_isPlace rfl (L := [.int x]) rfl ?_
  refine r_iload_0 rfl ?_
  refine r_push rfl ?_
  refine r_push rfl ?_
  refine r_invP_3 rfl rfl (by decide) (c_isIn _ _ _) ?_
  refine r_zret rfl (bI_01 _) ?_
  rfl
theorem c_mworn (q : MM h y g m) (v : VR m) (x : Int32) : Vc G 1 m_X6_worn [.ref y, .int x] h (.int (wornF m x)) := by
  obtain ⟨hs, h10⟩ := v.ss
  have o := q.1; have o1 := q.2
  refine wc_in mt_X6_worn rfl (L := [.ref y, .int x, am_un, am_un]) rfl ?_
  refine r_push rfl ?_
  refine r_istore_2 rfl ?_
  refine r_push rfl ?_
  refine r_istore_3 rfl ?_
  refine wp_for (nS m) (fun j => [.ref y, .int x, .int (bsF (fun s => decide (m (72 + 6 * s) = 0) && decide (m (73 + 6 * s) = x)) j), .int (nI j)]) (fun j hj k => ?_) ?_
  · have hj' : j < 100 := by omega
    refine r_iload_3 rfl ?_
    refine r_aload_0 rfl ?_
    refine r_getf rfl (by assumption) (by rfl) ?_
    refine r_push rfl ?_
    refine r_iald rfl (o1) (show (4 : Int32) = nI 4 from rfl) (by first | assumption | omega) (by first | decide | omega) ?_
    refine r_icgeF rfl (by rw [hs]; exact nI_lt hj (by omega)) ?_
    refine r_iload_2 rfl ?_
    refine r_aload_0 rfl ?_
    refine r_iload_3 rfl ?_
    refine r_push rfl ?_
    refine r_invvP_2 rfl (by assumption) rfl rfl (by decide) (c_os3 q hj') ?_
    refine r_ifne rfl (fun c_21 => ?_) (fun c_21 => ?_)
    · refine r_push rfl ?_
      refine r_ior rfl ?_
      refine r_istore_2 rfl ?_
      refine r_iinc_3 rfl ?_
      refine r_goto rfl ?_
      first | (rw [bsF_t (by simp [*]), nI_succ] at k; exact k) | (rw [bsF_f (by simp [*]), nI_succ] at k; exact k)
    · refine r_aload_0 rfl ?_
      refine r_iload_3 rfl ?_
      refine r_push rfl ?_
      refine r_invvP_2 rfl (by assumption) rfl rfl (by decide) (c_os4 q hj') ?_
      refine r_iload_1 rfl ?_
      refine r_icne rfl (fun c_31 => ?_) (fun c_31 => ?_)
      · refine r_push rfl ?_
        refine r_ior rfl ?_
        refine r_istore_2 rfl ?_
        refine r_iinc_3 rfl ?_
        refine r_goto rfl ?_
        first | (rw [bsF_t (by simp [*]), nI_succ] at k; exact k) | (rw [bsF_f (by simp [*]), nI_succ] at k; exact k)
      · refine r_push rfl ?_
        refine r_iload_3 rfl ?_
        refine r_ishl rfl ?_
        refine r_goto rfl ?_
        refine r_ior rfl ?_
        refine r_istore_2 rfl ?_
        refine r_iinc_3 rfl ?_
        refine r_goto rfl ?_
        first | (rw [bsF_t (by simp [*]), nI_succ] at k; exact k) | (rw [bsF_f (by simp [*]), nI_succ] at k; exact k)
  · refine r_iload_3 rfl ?_
    refine r_aload_0 rfl ?_
    refine r_getf rfl (by assumption) (by rfl) ?_
    refine r_push rfl ?_
    refine r_iald rfl (o1) (show (4 : Int32) = nI 4 from rfl) (by first | assumption | omega) (by first | decide | omega) ?_
    refine r_icgeT rfl (by rw [hs]; exact Int32.le_refl _) ?_
    refine r_iload_2 rfl ?_
    refine r_iret rfl ?_
    rfl
theorem c_mthoseAt (q : MM h y g m) (v : VR m) (x : Int32) : Vc G 1 m_X6_thoseAt [.ref y, .int x] h (.int (peopleF m x)) := by
  obtain ⟨hs, h10⟩ := v.pp
  have o := q.1; have o1 := q.2
  refine wc_in mt_X6_thoseAt rfl (L := [.ref y, .int x, am_un, am_un]) rfl ?_
  refine r_push rfl ?_
  refine r_istore_2 rfl ?_
  refine r_push rfl ?_
  refine r_istore_3 rfl ?_
  refine wp_for (nP m) (fun j => [.ref y, .int x, .int (bsF (fun p => decide (m (35 + 6 * p) = x)) j), .int (nI j)]) (fun j hj k => ?_) ?_
  · have hj' : j < 100 := by omega
    refine r_iload_3 rfl ?_
    refine r_aload_0 rfl ?_
    refine r_getf rfl (by assumption) (by rfl) ?_
    refine r_push rfl ?_
    refine r_iald rfl (o1) (show (3 : Int32) = nI 3 from rfl) (by first | assumption | omega) (by first | decide | omega) ?_
    refine r_icgeF rfl (by rw [hs]; exact nI_lt hj (by omega)) ?_
    refine r_iload_2 rfl ?_
    refine r_aload_0 rfl ?_
    refine r_iload_3 rfl ?_
    refine r_push rfl ?_
    refine r_invvP_2 rfl (by assumption) rfl rfl (by decide) (c_of2 q hj') ?_
    refine r_iload_1 rfl ?_
    refine r_icne rfl (fun c_22 => ?_) (fun c_22 => ?_)
    · refine r_push rfl ?_
      refine r_ior rfl ?_
      refine r_istore_2 rfl ?_
      refine r_iinc_3 rfl ?_
      refine r_goto rfl ?_
      first | (rw [bsF_t (by simp [*]), nI_succ] at k; exact k) | (rw [bsF_f (by simp [*]), nI_succ] at k; exact k)
    · refine r_push rfl ?_
      refine r_iload_3 rfl ?_
      refine r_ishl rfl ?_
      refine r_goto rfl ?_
      refine r_ior rfl ?_
      refine r_istore_2 rfl ?_
      refine r_iinc_3 rfl ?_
      refine r_goto rfl ?_
      first | (rw [bsF_t (by simp [*]), nI_succ] at k; exact k) | (rw [bsF_f (by simp [*]), nI_succ] at k; exact k)
  · refine r_iload_3 rfl ?_
    refine r_aload_0 rfl ?_
    refine r_getf rfl (by assumption) (by rfl) ?_
    refine r_push rfl ?_
    refine r_iald rfl (o1) (show (3 : Int32) = nI 3 from rfl) (by first | assumption | omega) (by first | decide | omega) ?_
    refine r_icgeT rfl (by rw [hs]; exact Int32.le_refl _) ?_
    refine r_iload_2 rfl ?_
    refine r_iret rfl ?_
    rfl
theorem c_mstonesAt (q : MM h y g m) (v : VR m) (x : Int32) : Vc G 1 m_X6_stonesAt [.ref y, .int x] h (.int (laidF m x)) := by
  obtain ⟨hs, h10⟩ := v.ss
  have o := q.1; have o1 := q.2
  refine wc_in mt_X6_stonesAt rfl (L := [.ref y, .int x, am_un, am_un]) rfl ?_
  refine r_push rfl ?_
  refine r_istore_2 rfl ?_
  refine r_push rfl ?_
  refine r_istore_3 rfl ?_
  refine wp_for (nS m) (fun j => [.ref y, .int x, .int (bsF (fun s => decide (m (72 + 6 * s) = 1) && decide (m (74 + 6 * s) = x)) j), .int (nI j)]) (fun j hj k => ?_) ?_
  · have hj' : j < 100 := by omega
    refine r_iload_3 rfl ?_
    refine r_aload_0 rfl ?_
    refine r_getf rfl (by assumption) (by rfl) ?_
    refine r_push rfl ?_
    refine r_iald rfl (o1) (show (4 : Int32) = nI 4 from rfl) (by first | assumption | omega) (by first | decide | omega) ?_
    refine r_icgeF rfl (by rw [hs]; exact nI_lt hj (by omega)) ?_
    refine r_iload_2 rfl ?_
    refine r_aload_0 rfl ?_
    refine r_iload_3 rfl ?_
    refine r_push rfl ?_
    refine r_invvP_2 rfl (by assumption) rfl rfl (by decide) (c_os3 q hj') ?_
    refine r_push rfl ?_
    refine r_icne rfl (fun c_22 => ?_) (fun c_22 => ?_)
    · refine r_push rfl ?_
      refine r_ior rfl ?_
      refine r_istore_2 rfl ?_
      refine r_iinc_3 rfl ?_
      refine r_goto rfl ?_
      first | (rw [bsF_t (by simp [*]), nI_succ] at k; exact k) | (rw [bsF_f (by simp [*]), nI_succ] at k; exact k)
    · refine r_aload_0 rfl ?_
      refine r_iload_3 rfl ?_
      refine r_push rfl ?_
      refine r_invvP_2 rfl (by assumption) rfl rfl (by decide) (c_os5 q hj') ?_
      refine r_iload_1 rfl ?_
      refine r_icne rfl (fun c_32 => ?_) (fun c_32 => ?_)
      · refine r_push rfl ?_
        refine r_ior rfl ?_
        refine r_istore_2 rfl ?_
        refine r_iinc_3 rfl ?_
        refine r_goto rfl ?_
        first | (rw [bsF_t (by simp [*]), nI_succ] at k; exact k) | (rw [bsF_f (by simp [*]), nI_succ] at k; exact k)
      · refine r_push rfl ?_
        refine r_iload_3 rfl ?_
        refine r_ishl rfl ?_
        refine r_goto rfl ?_
        refine r_ior rfl ?_
        refine r_istore_2 rfl ?_
        refine r_iinc_3 rfl ?_
        refine r_goto rfl ?_
        first | (rw [bsF_t (by simp [*]), nI_succ] at k; exact k) | (rw [bsF_f (by simp [*]), nI_succ] at k; exact k)
  · refine r_iload_3 rfl ?_
    refine r_aload_0 rfl ?_
    refine r_getf rfl (by assumption) (by rfl) ?_
    refine r_push rfl ?_
    refine r_iald rfl (o1) (show (4 : Int32) = nI 4 from rfl) (by first | assumption | omega) (by first | decide | omega) ?_
    refine r_icgeT rfl (by rw [hs]; exact Int32.le_refl _) ?_
    refine r_iload_2 rfl ?_
    refine r_iret rfl ?_
    rfl
theorem c_mstonesOf (q : MM h y g m) (v : VR m) (x : Int32) : Vc G 1 m_X6_stonesOf [.ref y, .int x] h (.int (stateF m x)) := by
  obtain ⟨hs, h10⟩ := v.ss
  have o := q.1; have o1 := q.2
  refine wc_in mt_X6_stonesOf rfl (L := [.ref y, .int x, am_un, am_un]) rfl ?_
  refine r_push rfl ?_
  refine r_istore_2 rfl ?_
  refine r_push rfl ?_
  refine r_istore_3 rfl ?_
  refine wp_for (nS m) (fun j => [.ref y, .int x, .int (bsF (fun s => decide (m (72 + 6 * s) = x)) j), .int (nI j)]) (fun j hj k => ?_) ?_
  · have hj' : j < 100 := by omega
    refine r_iload_3 rfl ?_
    refine r_aload_0 rfl ?_
    refine r_getf rfl (by assumption) (by rfl) ?_
    refine r_push rfl ?_
    refine r_iald rfl (o1) (show (4 : Int32) = nI 4 from rfl) (by first | assumption | omega) (by first | decide | omega) ?_
    refine r_icgeF rfl (by rw [hs]; exact nI_lt hj (by omega)) ?_
    refine r_iload_2 rfl ?_
    refine r_aload_0 rfl ?_
    refine r_iload_3 rfl ?_
    refine r_push rfl ?_
    refine r_invvP_2 rfl (by assumption) rfl rfl (by decide) (c_os3 q hj') ?_
    refine r_iload_1 rfl ?_
    refine r_icne rfl (fun c_22 => ?_) (fun c_22 => ?_)
    · refine r_push rfl ?_
      refine r_ior rfl ?_
      refine r_istore_2 rfl ?_
      refine r_iinc_3 rfl ?_
      refine r_goto rfl ?_
      first | (rw [bsF_t (by simp [*]), nI_succ] at k; exact k) | (rw [bsF_f (by simp [*]), nI_succ] at k; exact k)
    · refine r_push rfl ?_
      refine r_iload_3 rfl ?_
      refine r_ishl rfl ?_
      refine r_goto rfl ?_
      refine r_ior rfl ?_
      refine r_istore_2 rfl ?_
      refine r_iinc_3 rfl ?_
      refine r_goto rfl ?_
      first | (rw [bsF_t (by simp [*]), nI_succ] at k; exact k) | (rw [bsF_f (by simp [*]), nI_succ] at k; exact k)
  · refine r_iload_3 rfl ?_
    refine r_aload_0 rfl ?_
    refine r_getf rfl (by assumption) (by rfl) ?_
    refine r_push rfl ?_
    refine r_iald rfl (o1) (show (4 : Int32) = nI 4 from rfl) (by first | assumption | omega) (by first | decide | omega) ?_
    refine r_icgeT rfl (by rw [hs]; exact Int32.le_refl _) ?_
    refine r_iload_2 rfl ?_
    refine r_iret rfl ?_
    rfl
theorem c_mhurtOnes (q : MM h y g m) (v : VR m) : Vc G 1 m_X6_hurtOnes [.ref y] h (.int (hurtF m)) := by
  obtain ⟨hs, h10⟩ := v.pp
  have o := q.1; have o1 := q.2
  refine wc_in mt_X6_hurtOnes rfl (L := [.ref y, am_un, am_un]) rfl ?_
  refine r_push rfl ?_
  refine r_istore_1 rfl ?_
  refine r_push rfl ?_
  refine r_istore_2 rfl ?_
  refine wp_for (nP m) (fun j => [.ref y, .int (bsF (fun p => !decide (m (38 + 6 * p) = 0)) j), .int (nI j)]) (fun j hj k => ?_) ?_
  · have hj' : j < 100 := by omega
    have hh : m (38 + 6 * j) = 1 ↔ ¬ m (38 + 6 * j) = 0 := is01 (v.pe j hj).2.2
    refine r_iload_2 rfl ?_
    refine r_aload_0 rfl ?_
    refine r_getf rfl (by assumption) (by rfl) ?_
    refine r_push rfl ?_
    refine r_iald rfl (o1) (show (3 : Int32) = nI 3 from rfl) (by first | assumption | omega) (by first | decide | omega) ?_
    refine r_icgeF rfl (by rw [hs]; exact nI_lt hj (by omega)) ?_
    refine r_iload_1 rfl ?_
    refine r_aload_0 rfl ?_
    refine r_iload_2 rfl ?_
    refine r_push rfl ?_
    refine r_invvP_2 rfl (by assumption) rfl rfl (by decide) (c_of5 q hj') ?_
    refine r_push rfl ?_
    refine r_icne rfl (fun c_22 => ?_) (fun c_22 => ?_)
    · refine r_push rfl ?_
      refine r_ior rfl ?_
      refine r_istore_1 rfl ?_
      refine r_iinc_2 rfl ?_
      refine r_goto rfl ?_
      first | (rw [bsF_t (by simp [*]), nI_succ] at k; exact k) | (have z0 := Decidable.not_not.mp (fun z => c_22 (hh.mpr z)); rw [bsF_f (by simp [*]), nI_succ] at k; exact k)
    · refine r_push rfl ?_
      refine r_iload_2 rfl ?_
      refine r_ishl rfl ?_
      refine r_goto rfl ?_
      refine r_ior rfl ?_
      refine r_istore_1 rfl ?_
      refine r_iinc_2 rfl ?_
      refine r_goto rfl ?_
      first | (rw [bsF_t (by simp [*]), nI_succ] at k; exact k) | (have z0 := Decidable.not_not.mp (fun z => c_22 (hh.mpr z)); rw [bsF_f (by simp [*]), nI_succ] at k; exact k)
  · refine r_iload_2 rfl ?_
    refine r_aload_0 rfl ?_
    refine r_getf rfl (by assumption) (by rfl) ?_
    refine r_push rfl ?_
    refine r_iald rfl (o1) (show (3 : Int32) = nI 3 from rfl) (by first | assumption | omega) (by first | decide | omega) ?_
    refine r_icgeT rfl (by rw [hs]; exact Int32.le_refl _) ?_
    refine r_iload_1 rfl ?_
    refine r_iret rfl ?_
    rfl
theorem c_mweightOf (q : MM h y g m) (v : VR m) (x : Int32) : Vc G 1 m_X6_weightOf [.ref y, .int x] h (.int (weightF m x)) := by
  obtain ⟨hs, h10⟩ := v.ss
  have o := q.1; have o1 := q.2
  refine wc_in mt_X6_weightOf rfl (L := [.ref y, .int x, am_un, am_un]) rfl ?_
  refine r_push rfl ?_
  refine r_istore_2 rfl ?_
  refine r_push rfl ?_
  refine r_istore_3 rfl ?_
  refine wp_for (nS m) (fun j => [.ref y, .int x, .int (smF (fun s => if isF x (nI s) = true then m (71 + 6 * s) else 0) j), .int (nI j)]) (fun j hj k => ?_) ?_
  · have hj' : j < 100 := by omega
    simp only [smF, nI_succ] at k
    refine r_iload_3 rfl ?_
    refine r_aload_0 rfl ?_
    refine r_getf rfl (by assumption) (by rfl) ?_
    refine r_push rfl ?_
    refine r_iald rfl (o1) (show (4 : Int32) = nI 4 from rfl) (by first | assumption | omega) (by first | decide | omega) ?_
    refine r_icgeF rfl (by rw [hs]; exact nI_lt hj (by omega)) ?_
    refine r_iload_2 rfl ?_
    refine r_iload_1 rfl ?_
    refine r_iload_3 rfl ?_
    refine r_invP_2 rfl rfl (by decide) (c_isOf _ _) ?_
    refine r_ifeq rfl (fun c_20 => ?_) (fun c_20 => ?_)
    · refine r_push rfl ?_
      refine r_iadd rfl ?_
      refine r_istore_2 rfl ?_
      refine r_iinc_3 rfl ?_
      refine r_goto rfl ?_
      simp only [bI_0] at *
      simp only [c_20] at k; exact k
    · refine r_aload_0 rfl ?_
      refine r_iload_3 rfl ?_
      refine r_push rfl ?_
      refine r_invvP_2 rfl (by assumption) rfl rfl (by decide) (c_os2 q hj') ?_
      refine r_goto rfl ?_
      refine r_iadd rfl ?_
      refine r_istore_2 rfl ?_
      refine r_iinc_3 rfl ?_
      refine r_goto rfl ?_
      simp only [bI_0] at *
      simp only [c_20] at k; exact k
  · refine r_iload_3 rfl ?_
    refine r_aload_0 rfl ?_
    refine r_getf rfl (by assumption) (by rfl) ?_
    refine r_push rfl ?_
    refine r_iald rfl (o1) (show (4 : Int32) = nI 4 from rfl) (by first | assumption | omega) (by first | decide | omega) ?_
    refine r_icgeT rfl (by rw [hs]; exact Int32.le_refl _) ?_
    refine r_iload_2 rfl ?_
    refine r_iret rfl ?_
    rfl
theorem c_mload (q : MM h y g m) (v : VR m) (x : Int32) : Vc G 2 m_X6_load [.ref y, .int x] h (.int (loadF m x)) := by
  have o := q.1
  refine wc_in mt_X6_load rfl (L := [.ref y, .int x]) rfl ?_
  refine r_aload_0 rfl ?_
  refine r_aload_0 rfl ?_
  refine r_iload_1 rfl ?_
  refine r_invvP_1 rfl (by assumption) rfl rfl (by decide) (c_mworn q v x) ?_
  refine r_invvP_1 rfl (by assumption) rfl rfl (by decide) (c_mweightOf q v _) ?_
  refine r_iret rfl ?_
  rfl
theorem c_mpurses (q : MM h y g m) (v : VR m) : Vc G 1 m_X6_purses [.ref y] h (.int (pursesF m)) := by
  obtain ⟨hs, h10⟩ := v.pp
  have o := q.1; have o1 := q.2
  refine wc_in mt_X6_purses rfl (L := [.ref y, am_un, am_un]) rfl ?_
  refine r_push rfl ?_
  refine r_istore_1 rfl ?_
  refine r_push rfl ?_
  refine r_istore_2 rfl ?_
  refine wp_for (nP m) (fun j => [.ref y, .int (smF (fun p => m (33 + 6 * p)) j), .int (nI j)]) (fun j hj k => ?_) ?_
  · have hj' : j < 100 := by omega
    simp only [smF, nI_succ] at k
    refine r_iload_2 rfl ?_
    refine r_aload_0 rfl ?_
    refine r_getf rfl (by assumption) (by rfl) ?_
    refine r_push rfl ?_
    refine r_iald rfl (o1) (show (3 : Int32) = nI 3 from rfl) (by first | assumption | omega) (by first | decide | omega) ?_
    refine r_icgeF rfl (by rw [hs]; exact nI_lt hj (by omega)) ?_
    refine r_iload_1 rfl ?_
    refine r_aload_0 rfl ?_
    refine r_iload_2 rfl ?_
    refine r_push rfl ?_
    refine r_invvP_2 rfl (by assumption) rfl rfl (by decide) (c_of0 q hj') ?_
    refine r_iadd rfl ?_
    refine r_istore_1 rfl ?_
    refine r_iinc_2 rfl ?_
    refine r_goto rfl ?_
    exact k
  · refine r_iload_2 rfl ?_
    refine r_aload_0 rfl ?_
    refine r_getf rfl (by assumption) (by rfl) ?_
    refine r_push rfl ?_
    refine r_iald rfl (o1) (show (3 : Int32) = nI 3 from rfl) (by first | assumption | omega) (by first | decide | omega) ?_
    refine r_icgeT rfl (by rw [hs]; exact Int32.le_refl _) ?_
    refine r_iload_1 rfl ?_
    refine r_iret rfl ?_
    rfl
/-- weights of all that is not paid -/
def upwF (m : Nat → Int32) : Int32 := smF (fun s => if m (72 + 6 * s) = 2 then 0 else m (71 + 6 * s)) (nS m)
theorem is2 {x : Int32} (q : isB x 3) : x < 2 ↔ ¬ x = 2 := by
  obtain ⟨k, hk, rfl⟩ := q
  rcases (show k = 0 ∨ k = 1 ∨ k = 2 by omega) with rfl | rfl | rfl <;> decide
theorem c_munpaid (q : MM h y g m) (v : VR m) : Vc G 1 m_X6_unpaid [.ref y] h (.int (upwF m)) := by
  obtain ⟨hs, h10⟩ := v.ss
  have o := q.1; have o1 := q.2
  refine wc_in mt_X6_unpaid rfl (L := [.ref y, am_un, am_un]) rfl ?_
  refine r_push rfl ?_
  refine r_istore_1 rfl ?_
  refine r_push rfl ?_
  refine r_istore_2 rfl ?_
  refine wp_for (nS m) (fun j => [.ref y, .int (smF (fun s => if m (72 + 6 * s) = 2 then 0 else m (71 + 6 * s)) j), .int (nI j)]) (fun j hj k => ?_) ?_
  · have hj' : j < 100 := by omega
    have h2 := is2 (v.st j hj).2.2.2.1
    simp only [smF, nI_succ] at k
    refine r_iload_2 rfl ?_
    refine r_aload_0 rfl ?_
    refine r_getf rfl (by assumption) (by rfl) ?_
    refine r_push rfl ?_
    refine r_iald rfl (o1) (show (4 : Int32) = nI 4 from rfl) (by first | assumption | omega) (by first | decide | omega) ?_
    refine r_icgeF rfl (by rw [hs]; exact nI_lt hj (by omega)) ?_
    refine r_iload_1 rfl ?_
    refine r_aload_0 rfl ?_
    refine r_iload_2 rfl ?_
    refine r_push rfl ?_
    refine r_invvP_2 rfl (by assumption) rfl rfl (by decide) (c_os3 q hj') ?_
    refine r_push rfl ?_
    refine r_icge rfl (fun c_22 => ?_) (fun c_22 => ?_)
    · refine r_push rfl ?_
      refine r_iadd rfl ?_
      refine r_istore_1 rfl ?_
      refine r_iinc_2 rfl ?_
      refine r_goto rfl ?_
      first | (rw [if_neg (h2.mp (by assumption))] at k; exact k) | (rw [if_pos (Decidable.not_not.mp (fun z => Int32.not_lt.mpr c_22 (h2.mpr z)))] at k; exact k)
    · refine r_aload_0 rfl ?_
      refine r_iload_2 rfl ?_
      refine r_push rfl ?_
      refine r_invvP_2 rfl (by assumption) rfl rfl (by decide) (c_os2 q hj') ?_
      refine r_goto rfl ?_
      refine r_iadd rfl ?_
      refine r_istore_1 rfl ?_
      refine r_iinc_2 rfl ?_
      refine r_goto rfl ?_
      first | (rw [if_neg (h2.mp (by assumption))] at k; exact k) | (rw [if_pos (Decidable.not_not.mp (fun z => Int32.not_lt.mpr c_22 (h2.mpr z)))] at k; exact k)
  · refine r_iload_2 rfl ?_
    refine r_aload_0 rfl ?_
    refine r_getf rfl (by assumption) (by rfl) ?_
    refine r_push rfl ?_
    refine r_iald rfl (o1) (show (4 : Int32) = nI 4 from rfl) (by first | assumption | omega) (by first | decide | omega) ?_
    refine r_icgeT rfl (by rw [hs]; exact Int32.le_refl _) ?_
    refine r_iload_1 rfl ?_
    refine r_iret rfl ?_
    rfl
theorem c_mowed (q : MM h y g m) (v : VR m) (x : Int32) {c : Int32} {k9 : Nat} (hc : c = nI k9) (hk9 : k9 < 6) : Vc G 1 m_X6_owed [.ref y, .int x, .int c] h (.int (bsF (fun s => !decide (m (72 + 6 * s) = 2) && decide (m (69 + 6 * s + k9) = x)) (nS m))) := by
  obtain ⟨hs, h10⟩ := v.ss
  have o := q.1; have o1 := q.2
  refine wc_in mt_X6_owed rfl (L := [.ref y, .int x, .int c, am_un, am_un]) rfl ?_
  refine r_push rfl ?_
  refine r_istore_3 rfl ?_
  refine r_push rfl ?_
  refine r_istore_4 rfl ?_
  refine wp_for (nS m) (fun j => [.ref y, .int x, .int c, .int (bsF (fun s => !decide (m (72 + 6 * s) = 2) && decide (m (69 + 6 * s + k9) = x)) j), .int (nI j)]) (fun j hj k => ?_) ?_
  · have hj' : j < 100 := by omega
    have h2 := is2 (v.st j hj).2.2.2.1
    refine r_iload_4 rfl ?_
    refine r_aload_0 rfl ?_
    refine r_getf rfl (by assumption) (by rfl) ?_
    refine r_push rfl ?_
    refine r_iald rfl (o1) (show (4 : Int32) = nI 4 from rfl) (by first | assumption | omega) (by first | decide | omega) ?_
    refine r_icgeF rfl (by rw [hs]; exact nI_lt hj (by omega)) ?_
    refine r_iload_3 rfl ?_
    refine r_aload_0 rfl ?_
    refine r_iload_4 rfl ?_
    refine r_push rfl ?_
    refine r_invvP_2 rfl (by assumption) rfl rfl (by decide) (c_os3 q hj') ?_
    refine r_push rfl ?_
    refine r_icge rfl (fun c_25 => ?_) (fun c_25 => ?_)
    · refine r_push rfl ?_
      refine r_ior rfl ?_
      refine r_istore_3 rfl ?_
      refine r_iinc_4 rfl ?_
      refine r_goto rfl ?_
      first | (have z := h2.mp (by assumption); rw [bsF_t (by simp [*]), nI_succ] at k; exact k) | (have z := h2.mp (by assumption); rw [bsF_f (by simp [*]), nI_succ] at k; exact k) | (have z := Decidable.not_not.mp (fun z => Int32.not_lt.mpr c_25 (h2.mpr z)); rw [bsF_f (by simp [*]), nI_succ] at k; exact k)
    · refine r_aload_0 rfl ?_
      refine r_iload_4 rfl ?_
      refine r_iload_2 rfl ?_
      refine r_invvP_2 rfl (by assumption) rfl rfl (by decide) (c_mOfS q hc (by omega)) ?_
      refine r_iload_1 rfl ?_
      refine r_icne rfl (fun c_36 => ?_) (fun c_36 => ?_)
      · refine r_push rfl ?_
        refine r_ior rfl ?_
        refine r_istore_3 rfl ?_
        refine r_iinc_4 rfl ?_
        refine r_goto rfl ?_
        first | (have z := h2.mp (by assumption); rw [bsF_t (by simp [*]), nI_succ] at k; exact k) | (have z := h2.mp (by assumption); rw [bsF_f (by simp [*]), nI_succ] at k; exact k) | (have z := Decidable.not_not.mp (fun z => Int32.not_lt.mpr c_25 (h2.mpr z)); rw [bsF_f (by simp [*]), nI_succ] at k; exact k)
      · refine r_push rfl ?_
        refine r_iload_4 rfl ?_
        refine r_ishl rfl ?_
        refine r_goto rfl ?_
        refine r_ior rfl ?_
        refine r_istore_3 rfl ?_
        refine r_iinc_4 rfl ?_
        refine r_goto rfl ?_
        first | (have z := h2.mp (by assumption); rw [bsF_t (by simp [*]), nI_succ] at k; exact k) | (have z := h2.mp (by assumption); rw [bsF_f (by simp [*]), nI_succ] at k; exact k) | (have z := Decidable.not_not.mp (fun z => Int32.not_lt.mpr c_25 (h2.mpr z)); rw [bsF_f (by simp [*]), nI_succ] at k; exact k)
  · refine r_iload_4 rfl ?_
    refine r_aload_0 rfl ?_
    refine r_getf rfl (by assumption) (by rfl) ?_
    refine r_push rfl ?_
    refine r_iald rfl (o1) (show (4 : Int32) = nI 4 from rfl) (by first | assumption | omega) (by first | decide | omega) ?_
    refine r_icgeT rfl (by rw [hs]; exact Int32.le_refl _) ?_
    refine r_iload_3 rfl ?_
    refine r_iret rfl ?_
    rfl
theorem c_misBowed (q : MM h y g m) (v : VR m) {p : Nat} (hp : p < nP m) : Vc G 3 m_X6_isBowed [.ref y, .int (nI p)] h (.int (bI (bowF m p))) := by
  have hp6 := v.pp.2
  have o := q.1
  have hh := is01 (v.pe p hp).2.2
  refine wc_in mt_X6_isBowed rfl (L := [.ref y, .int (nI p)]) rfl ?_
  refine r_aload_0 rfl ?_
  refine r_iload_1 rfl ?_
  refine r_invvP_1 rfl (by assumption) rfl rfl (by decide) (c_mload q v _) ?_
  refine r_aload_0 rfl ?_
  refine r_iload_1 rfl ?_
  refine r_push rfl ?_
  refine r_invvP_2 rfl (by assumption) rfl rfl (by decide) (c_of1 q (by omega)) ?_
  refine r_icgt rfl (fun c_11 => ?_) (fun c_11 => ?_)
  · refine r_push rfl ?_
    refine r_goto rfl ?_
    refine r_zret rfl (by first | decide | assumption) ?_
    first | (rw [show bowF m p = true by simp [bowF, *]]; rfl) | (have z0 := Decidable.not_not.mp (fun z => c_32 (hh.mpr z)); have z1 := Int32.not_lt.mpr c_11; rw [show bowF m p = false by simp [bowF, *]]; rfl)
  · refine r_aload_0 rfl ?_
    refine r_iload_1 rfl ?_
    refine r_push rfl ?_
    refine r_invvP_2 rfl (by assumption) rfl rfl (by decide) (c_of4 q (by omega)) ?_
    refine r_push rfl ?_
    refine r_iceq rfl (fun c_22 => ?_) (fun c_22 => ?_)
    · refine r_push rfl ?_
      refine r_goto rfl ?_
      refine r_zret rfl (by first | decide | assumption) ?_
      first | (rw [show bowF m p = true by simp [bowF, *]]; rfl) | (have z0 := Decidable.not_not.mp (fun z => c_32 (hh.mpr z)); have z1 := Int32.not_lt.mpr c_11; rw [show bowF m p = false by simp [bowF, *]]; rfl)
    · refine r_aload_0 rfl ?_
      refine r_iload_1 rfl ?_
      refine r_push rfl ?_
      refine r_invvP_2 rfl (by assumption) rfl rfl (by decide) (c_of5 q (by omega)) ?_
      refine r_push rfl ?_
      refine r_icne rfl (fun c_32 => ?_) (fun c_32 => ?_)
      · refine r_push rfl ?_
        refine r_zret rfl (by first | decide | assumption) ?_
        first | (rw [show bowF m p = true by simp [bowF, *]]; rfl) | (have z0 := Decidable.not_not.mp (fun z => c_32 (hh.mpr z)); have z1 := Int32.not_lt.mpr c_11; rw [show bowF m p = false by simp [bowF, *]]; rfl)
      · refine r_push rfl ?_
        refine r_goto rfl ?_
        refine r_zret rfl (by first | decide | assumption) ?_
        first | (rw [show bowF m p = true by simp [bowF, *]]; rfl) | (have z0 := Decidable.not_not.mp (fun z => c_32 (hh.mpr z)); have z1 := Int32.not_lt.mpr c_11; rw [show bowF m p = false by simp [bowF, *]]; rfl)
theorem c_mmayGo (q : MM h y g m) (l a b : Int32) : Vc G 0 m_X6_mayGo [.ref y, .int l, .int a, .int b] h (.int (bI (decide (a + b ≠ 11) || decide (l ≤ m 6)))) := by
  have o := q.1; have o1 := q.2
  refine wc_in mt_X6_mayGo rfl (L := [.ref y, .int l, .int a, .int b]) rfl ?_
  refine r_iload_2 rfl ?_
  refine r_iload_3 rfl ?_
  refine r_iadd rfl ?_
  refine r_push rfl ?_
  refine r_icne rfl (fun c_5 => ?_) (fun c_5 => ?_)
  · refine r_push rfl ?_
    refine r_goto rfl ?_
    refine r_zret rfl (by first | decide | assumption) ?_
    first | (rw [show (decide (a + b ≠ 11) || decide (l ≤ m 6)) = true by simp [*]]; rfl) | (rw [show (decide (a + b ≠ 11) || decide (l ≤ m 6)) = false by simp [*]]; rfl)
  · refine r_iload_1 rfl ?_
    refine r_aload_0 rfl ?_
    refine r_getf rfl (by assumption) (by rfl) ?_
    refine r_push rfl ?_
    refine r_iald rfl (o1) (show (6 : Int32) = nI 6 from rfl) (by first | assumption | omega) (by first | decide | omega) ?_
    refine r_icgt rfl (fun c_16 => ?_) (fun c_16 => ?_)
    · refine r_push rfl ?_
      refine r_zret rfl (by first | decide | assumption) ?_
      first | (rw [show (decide (a + b ≠ 11) || decide (l ≤ m 6)) = true by simp [*]]; rfl) | (rw [show (decide (a + b ≠ 11) || decide (l ≤ m 6)) = false by simp [*]]; rfl)
    · refine r_push rfl ?_
      refine r_goto rfl ?_
      refine r_zret rfl (by first | decide | assumption) ?_
      first | (rw [show (decide (a + b ≠ 11) || decide (l ≤ m 6)) = true by simp [*]]; rfl) | (rw [show (decide (a + b ≠ 11) || decide (l ≤ m 6)) = false by simp [*]]; rfl)
end
