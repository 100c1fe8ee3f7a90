/-! WORLD: the writing methods -/
set_option maxRecDepth 100000
def rmF (x y : Int32) : Int32 := x - x / y * y
def nxF (m : Nat → Int32) (p : Nat) : Int32 := if m (35 + 6 * p) < m (36 + 6 * p) then m (35 + 6 * p) + 1 else m (35 + 6 * p) - 1
def wkF (m : Nat → Int32) (p : Nat) : Nat → Int32 := if maxF (nxF m p) (m (35 + 6 * p)) = 6 ∧ m 6 < loadF m (nI p) then m else upd m (35 + 6 * p) (nxF m p)
def ageN (m : Nat → Int32) : Nat → Nat → Int32
  | 0 => m
  | s + 1 => if ageN m s (72 + 6 * s) = 2 then ageN m s else upd (ageN m s) (71 + 6 * s) (minF 40 (ageN m s (71 + 6 * s) + 1))
def slpN (m : Nat → Int32) : Nat → Nat → Int32
  | 0 => m
  | p + 1 => upd (slpN m p) (37 + 6 * p) (slpN m p (37 + 6 * p) / 2)
def dawnF (m : Nat → Int32) : Nat → Int32 := slpN (ageN m (nS m)) (nP m)
def endF (m : Nat → Int32) : Nat → Int32 := if m 5 = 9999 then m else if rmF (m 5 + 1) 24 ≠ 0 then upd m 5 (m 5 + 1) else dawnF (upd m 5 (m 5 + 1))
def sdF (m : Nat → Int32) : Int32 := 1103515245 * m 8 + 12345
def drF (s : Int32) : Int32 := rmF ((s.toUInt32 >>> ((16 : Int32).toUInt32 &&& Int32.toUInt32 31)).toInt32 &&& 32767) 100
def tlF (m : Nat → Int32) (s what n : Int32) : Nat → Int32 := fun j => if j = 7 then minF 60 (m 7 + 1) else if j = 129 then m 5 else if j = 130 then s else if j = 131 then what else if j = 132 then n else if 133 ≤ j ∧ j < 369 then m (j - 4) else m j
theorem ageN_lo (m : Nat → Int32) {j : Nat} (h : j < 69 ∨ 129 ≤ j ∨ (j - 69) % 6 ≠ 2) : ∀ s, s ≤ 10 → ageN m s j = m j
  | 0, _ => rfl
  | s + 1, hs => by
    rw [ageN]
    split
    · exact ageN_lo m h s (by omega)
    · rw [upd_ne (by omega)]; exact ageN_lo m h s (by omega)
theorem slpN_lo (m : Nat → Int32) {j : Nat} (h : j < 33 ∨ 69 ≤ j ∨ (j - 33) % 6 ≠ 4) : ∀ p, p ≤ 6 → slpN m p j = m j
  | 0, _ => rfl
  | p + 1, hp => by rw [slpN, upd_ne (by omega)]; exact slpN_lo m h p (by omega)
theorem cpy_all {n : Nat} {f g : Nat → Int32} : va_cpy (cl n f) (cl n g) 0 0 n = cl n f := by
  funext i
  unfold va_cpy cl
  (repeat' split) <;> first | rfl | omega | (exfalso; omega) | (congr 1; omega)
theorem WA.same2 {h : am_H} {w : Nat} {m m' b : Nat → Int32} {l : Value} (q : WA h w m b l) (e1 : ∀ k, (k < 69 ∨ 129 ≤ k ∨ (k - 69) % 6 < 4) → m' k = m k) : WA h w m' b l := by
  intro j hj
  rw [q j hj]
  refine congrArg some (wcl_eq hj (fun k z => (e1 k ?_).symm) (fun _ s hs => rfl) (fun _ => rfl))
  by_cases y : k < 69 ∨ 129 ≤ k ∨ (k - 69) % 6 < 4
  · exact y
  · exact absurd (show noP j k from ⟨fun _ => by omega, fun _ _ => by omega, fun _ => by omega, fun _ => by omega, fun _ _ => by omega, fun _ => by omega⟩) z
/-- one cell more is like the other World's -/
theorem lik_step {h h0 : am_H} {w w2 i : Nat} {m b m2 b2 : Nat → Int32} {l l2 : Value} (nj : ∀ i j, i < 15 → j < 15 → w2 + i ≠ w + j) (hi : i < 15) (q2 : ∀ j, j < 15 → h.1 (w2 + j) = some (wcl w2 m2 b2 l2 j)) (q : ∀ j, j < 15 → h.1 (w + j) = some (if j < i then wcl w m2 b2 l2 j else wcl w m b l j)) (f : HF (InW w) 0 0 h0 h) (h1 : 1 ≤ i) :
    (∀ j, j < 15 → (am_set h (w + i) (wcl w m2 b2 l2 i)).1 (w2 + j) = some (wcl w2 m2 b2 l2 j)) ∧ (∀ j, j < 15 → (am_set h (w + i) (wcl w m2 b2 l2 i)).1 (w + j) = some (if j < i + 1 then wcl w m2 b2 l2 j else wcl w m b l j)) ∧ HF (InW w) 0 0 h0 (am_set h (w + i) (wcl w m2 b2 l2 i)) := by
  refine ⟨fun j hj => am_set_k (q2 j hj) (nj j i hj hi), fun j hj => ?_, HF.setP f (q i hi) ⟨by omega, by omega⟩⟩
  by_cases z : j = i
  · subst z; rw [if_pos (by omega), am_set_at]
  · rw [am_set_ne (by omega), q j hj]
    by_cases y : j < i
    · rw [if_pos y, if_pos (by omega)]
    · rw [if_neg y, if_neg (by omega)]
section
variable {h : am_H} {w : Nat} {m b : Nat → Int32} {l : Value} {G : am_G}
theorem c_gets (q : WA h w m b l) (hw : HW h) {p : Nat} (hp : p < 6) (n : Int32) : En G 1 m_X2_gets [.ref w, .int (nI p), .int n] h (fun h' => WA h' w (upd m (33 + 6 * p) (minF 9999 (m (33 + 6 * p) + n))) b l ∧ HF (InW w) 0 0 h h') := by
  have o := wa_o q; have a1 := wa_pu q
  refine wc_in mt_X2_gets rfl (L := [.ref w, .int (nI p), .int n]) rfl ?_
  refine r_aload_0 rfl ?_
  refine r_getf rfl (by assumption) (by rfl) ?_
  refine r_iload_1 rfl ?_
  refine r_push rfl ?_
  refine r_aload_0 rfl ?_
  refine r_getf rfl (by assumption) (by rfl) ?_
  refine r_iload_1 rfl ?_
  refine r_iald rfl (by assumption) (by rfl) (hp) (by first | decide | omega) ?_
  refine r_iload_2 rfl ?_
  refine r_iadd rfl ?_
  refine r_invP_2 rfl rfl (by decide) (c_min _ _) ?_
  refine r_iast rfl (by assumption) (by rfl) (hp) (by first | decide | omega) ?_
  refine r_vret rfl ?_
  rw [cl_in hp]
  exact ⟨_, rfl, q.pu hp, q.hf hw (by decide)⟩
theorem c_walks (q : WA h w m b l) (hw : HW h) (v : VR m) (y : BY b m) {p : Nat} (hp : p < 6) : En G 3 m_X2_walks [.ref w, .int (nI p)] h (fun h' => WA h' w (wkF m p) b l ∧ HF (InW w) 0 0 h h') := by
  have o := wa_o q; have a1 := wa_go q; have a2 := wa_at q
  refine wc_in mt_X2_walks rfl (L := [.ref w, .int (nI p), am_un, am_un]) rfl ?_
  have go : ∀ nx, nx = nxF m p → Wp G 3 mt_X2_walks 44 [.ref w, .int (nI p), .int (bI (decide (m (35 + 6 * p) < m (36 + 6 * p)))), am_un] [.int nx] h (fun R => ∃ h', R = .inl (none, h') ∧ WA h' w (wkF m p) b l ∧ HF (InW w) 0 0 h h') := by
    rintro nx rfl
    have mv : ¬ (maxF (nxF m p) (m (35 + 6 * p)) = 6 ∧ m 6 < loadF m (nI p)) → Wp G 3 mt_X2_walks 73 [.ref w, .int (nI p), .int (bI (decide (m (35 + 6 * p) < m (36 + 6 * p)))), .int (nxF m p)] [] h (fun R => ∃ h', R = .inl (none, h') ∧ WA h' w (wkF m p) b l ∧ HF (InW w) 0 0 h h') := by
      intro hz
      refine r_aload_0 rfl ?_
      refine r_getf rfl (by assumption) (by rfl) ?_
      refine r_iload_1 rfl ?_
      refine r_iload_3 rfl ?_
      refine r_iast rfl (by assumption) (by rfl) (hp) (by first | decide | omega) ?_
      refine r_vret rfl ?_
      refine ⟨_, rfl, ?_, q.hf hw (i := 3) (by decide)⟩
      unfold wkF
      rw [if_neg hz]
      exact q.at3 hp
    refine r_istore_3 rfl ?_
    refine r_iload_3 rfl ?_
    refine r_aload_0 rfl ?_
    refine r_getf rfl (by assumption) (by rfl) ?_
    refine r_iload_1 rfl ?_
    refine r_iald rfl (by assumption) (by rfl) (hp) (by first | decide | omega) ?_
    refine r_invP_2 rfl rfl (by decide) (c_max _ _) ?_
    refine r_push rfl ?_
    refine r_icne rfl (fun c_57 => ?_) (fun c_57 => ?_)
    · refine mv (fun z => ?_)
      simp only [cl_in hp] at *
      first | exact c_57 z.1 | exact Int32.not_lt.mpr c_69 z.2
    · refine r_aload_0 rfl ?_
      refine r_iload_1 rfl ?_
      refine r_invvP_1 rfl (by assumption) rfl rfl (by decide) (c_load q v y _) ?_
      refine r_aload_0 rfl ?_
      refine r_getf rfl (by assumption) (by rfl) ?_
      refine r_icle rfl (fun c_69 => ?_) (fun c_69 => ?_)
      · refine mv (fun z => ?_)
        simp only [cl_in hp] at *
        first | exact c_57 z.1 | exact Int32.not_lt.mpr c_69 z.2
      · refine r_vret rfl ?_
        simp only [cl_in hp] at *
        refine ⟨h, rfl, ?_, HF.mono (HF.refl hw) (fun _ z => z) (Nat.le_refl _) (Nat.le_refl _)⟩
        unfold wkF
        rw [if_pos ⟨c_57, c_69⟩]
        exact q
  have hn1 : m (35 + 6 * p) < m (36 + 6 * p) → nxF m p = m (35 + 6 * p) + 1 := fun z => if_pos z
  have hn2 : ¬ m (35 + 6 * p) < m (36 + 6 * p) → nxF m p = m (35 + 6 * p) - 1 := fun z => if_neg z
  refine r_aload_0 rfl ?_
  refine r_getf rfl o rfl ?_
  refine r_iload_1 rfl ?_
  refine r_iald rfl a1 rfl hp (by decide) ?_
  refine r_aload_0 rfl ?_
  refine r_getf rfl o rfl ?_
  refine r_iload_1 rfl ?_
  refine r_iald rfl a2 rfl hp (by decide) ?_
  rw [cl_in hp, cl_in hp]
  refine r_icle rfl (fun c => ?_) (fun c => ?_)
  · have c1 := Int32.not_lt.mpr c
    rw [decide_eq_false c1] at go
    refine r_push rfl ?_
    refine r_istore_2 rfl ?_
    refine r_iload_2 rfl ?_
    refine r_ifeqT rfl (rfl) ?_
    refine r_aload_0 rfl ?_
    refine r_getf rfl (by assumption) (by rfl) ?_
    refine r_iload_1 rfl ?_
    refine r_iald rfl (by assumption) (by rfl) (by first | assumption | omega) (by first | decide | omega) ?_
    refine r_push rfl ?_
    refine r_isub rfl ?_
    rw [cl_in hp]
    exact go _ (hn2 c1).symm
  · rw [decide_eq_true c] at go
    refine r_push rfl ?_
    refine r_goto rfl ?_
    refine r_istore_2 rfl ?_
    refine r_iload_2 rfl ?_
    refine r_ifeqF rfl (by decide) ?_
    refine r_aload_0 rfl ?_
    refine r_getf rfl (by assumption) (by rfl) ?_
    refine r_iload_1 rfl ?_
    refine r_iald rfl (by assumption) (by rfl) (hp) (by first | decide | omega) ?_
    refine r_push rfl ?_
    refine r_iadd rfl ?_
    refine r_goto rfl ?_
    rw [cl_in hp]
    exact go _ (hn1 c).symm
theorem c_ends (q : WA h w m b l) (hw : HW h) (v : VR m) : En G 1 m_X2_ends [.ref w] h (fun h' => WA h' w (endF m) b l ∧ HF (InW w) 0 0 h h') := by
  have o := wa_o q
  have hP := v.pp
  have hS := v.ss
  refine wc_in mt_X2_ends rfl (L := [.ref w, am_un]) rfl ?_
  refine r_aload_0 rfl ?_
  refine r_getf rfl o rfl ?_
  refine r_push rfl ?_
  refine r_icne rfl (fun c => ?_) (fun c => ?_)
  · have q1 := q.ob (k := 5) (v := m 5 + 1) (by decide)
    have f1 : HF (InW w) 0 0 h (am_set h w (.inr (1, wobj w (upd m 5 (m 5 + 1)) l))) := q.hf hw (i := 0) (by decide)
    refine r_aload_0 rfl ?_
    refine r_dupR rfl ?_
    refine r_getf rfl o rfl ?_
    refine r_push rfl ?_
    refine r_iadd rfl ?_
    refine r_puti rfl o rfl ?_
    rw [wo_4]
    refine r_aload_0 rfl ?_
    refine r_getf rfl am_set_at rfl ?_
    refine r_push rfl ?_
    refine r_irem rfl (by decide) ?_
    rw [show upd m 5 (m 5 + 1) 5 = m 5 + 1 from rfl]
    refine r_ifeq rfl (fun c1 => ?_) (fun c1 => ?_)
    · have e1 : endF m = dawnF (upd m 5 (m 5 + 1)) := by unfold endF; rw [if_neg c, if_neg (fun z => z c1)]
      rw [e1]
      generalize hm1 : upd m 5 (m 5 + 1) = m1 at *
      have hs1 : m1 4 = nI (nS m) := by rw [← hm1]; exact hS.1
      have hp1 : m1 3 = nI (nP m) := by rw [← hm1]; exact hP.1
      have eS : nS m1 = nS m := by unfold nS; rw [hs1]; exact nI_clamp (by omega)
      have eP : nP m1 = nP m := by unfold nP; rw [hp1]; exact nI_clamp (by omega)
      have second : ∀ h2, WA h2 w (ageN m1 (nS m)) b l → HF (InW w) 0 0 h h2 → Wp G 1 mt_X2_ends 77 [.ref w, .int (nI (nS m))] [] h2 (fun R => ∃ h', R = .inl (none, h') ∧ WA h' w (dawnF m1) b l ∧ HF (InW w) 0 0 h h') := by
        intro h2 q2 f2
        refine r_push rfl ?_
        refine r_istore_1 rfl ?_
        refine wp_forHK (nP m) (fun j => [.ref w, .int (nI j)]) (fun j h' => WA h' w (slpN (ageN m1 (nS m)) j) b l ∧ HF (InW w) 0 0 h h') (fun j h' hj hK kont => ?_) (fun h' hK => ?_) ⟨q2, f2⟩
        · obtain ⟨q3, f3⟩ := hK
          have o3 := wa_o q3; have a3 := wa_ti q3
          have hj6 : j < 6 := by omega
          have e3 : slpN (ageN m1 (nS m)) j 3 = nI (nP m) := by rw [slpN_lo _ (by omega) j (by omega), ageN_lo _ (by omega) _ hS.2, hp1]
          refine r_iload_1 rfl ?_
          refine r_aload_0 rfl ?_
          refine r_getf rfl o3 rfl ?_
          rw [e3]
          refine r_icgeF rfl (nI_lt hj (by omega)) ?_
          refine r_aload_0 rfl ?_
          refine r_getf rfl o3 rfl ?_
          refine r_iload_1 rfl ?_
          refine r_dup2 rfl ?_
          refine r_iald rfl a3 rfl hj6 (by decide) ?_
          refine r_push rfl ?_
          refine r_idiv rfl (by decide) ?_
          refine r_iast rfl a3 rfl hj6 (by decide) ?_
          refine r_iinc_1 rfl ?_
          refine r_goto rfl ?_
          rw [nI_1, cl_in hj6]
          exact kont _ ⟨q3.ti hj6, q3.hf2 f3 (i := 5) (by decide)⟩
        · obtain ⟨q3, f3⟩ := hK
          have o3 := wa_o q3
          have e3 : slpN (ageN m1 (nS m)) (nP m) 3 = nI (nP m) := by rw [slpN_lo _ (by omega) _ hP.2, ageN_lo _ (by omega) _ hS.2, hp1]
          refine r_iload_1 rfl ?_
          refine r_aload_0 rfl ?_
          refine r_getf rfl o3 rfl ?_
          rw [e3]
          refine r_icgeT rfl (Int32.le_refl _) ?_
          refine r_vret rfl ?_
          refine ⟨_, rfl, ?_, f3⟩
          unfold dawnF
          rw [eS, eP]
          exact q3
      refine r_push rfl ?_
      refine r_istore_1 rfl ?_
      refine wp_forHK (nS m) (fun j => [.ref w, .int (nI j)]) (fun j h' => WA h' w (ageN m1 j) b l ∧ HF (InW w) 0 0 h h') (fun j h' hj hK kont => ?_) (fun h' hK => ?_) ⟨q1, f1⟩
      · obtain ⟨q3, f3⟩ := hK
        have o3 := wa_o q3; have a3 := wa_st q3; have a4 := wa_we q3
        have hj10 : j < 10 := by omega
        have e3 : ageN m1 j 4 = nI (nS m) := by rw [ageN_lo _ (by omega) j (by omega), hs1]
        refine r_iload_1 rfl ?_
        refine r_aload_0 rfl ?_
        refine r_getf rfl o3 rfl ?_
        rw [e3]
        refine r_icgeF rfl (nI_lt hj (by omega)) ?_
        refine r_aload_0 rfl ?_
        refine r_getf rfl o3 rfl ?_
        refine r_iload_1 rfl ?_
        refine r_iald rfl a3 rfl hj10 (by decide) ?_
        rw [cl_in hj10]
        refine r_push rfl ?_
        refine r_iceq rfl (fun c2 => ?_) (fun c2 => ?_)
        · refine r_iinc_1 rfl ?_
          refine r_goto rfl ?_
          rw [nI_1]
          refine kont _ ⟨?_, f3⟩
          rw [ageN, if_pos c2]
          exact q3
        · refine r_aload_0 rfl ?_
          refine r_getf rfl o3 rfl ?_
          refine r_iload_1 rfl ?_
          refine r_push rfl ?_
          refine r_aload_0 rfl ?_
          refine r_getf rfl o3 rfl ?_
          refine r_iload_1 rfl ?_
          refine r_iald rfl a4 rfl hj10 (by decide) ?_
          rw [cl_in hj10]
          refine r_push rfl ?_
          refine r_iadd rfl ?_
          refine r_invP_2 rfl rfl (by decide) (c_min _ _) ?_
          refine r_iast rfl a4 rfl hj10 (by decide) ?_
          refine r_iinc_1 rfl ?_
          refine r_goto rfl ?_
          rw [nI_1]
          refine kont _ ⟨?_, q3.hf2 f3 (i := 11) (by decide)⟩
          rw [ageN, if_neg c2]
          exact q3.we hj10
      · obtain ⟨q3, f3⟩ := hK
        have o3 := wa_o q3
        have e3 : ageN m1 (nS m) 4 = nI (nS m) := by rw [ageN_lo _ (by omega) _ hS.2, hs1]
        refine r_iload_1 rfl ?_
        refine r_aload_0 rfl ?_
        refine r_getf rfl o3 rfl ?_
        rw [e3]
        refine r_icgeT rfl (Int32.le_refl _) ?_
        exact second h' q3 f3
    · have e1 : endF m = upd m 5 (m 5 + 1) := by unfold endF; rw [if_neg c]; exact if_pos c1
      rw [e1]
      refine r_vret rfl ?_
      exact ⟨_, rfl, q1, f1⟩
  · have e1 : endF m = m := by unfold endF; rw [if_pos c]
    rw [e1]
    refine r_vret rfl ?_
    exact ⟨_, rfl, q, (HF.refl hw).mono (fun _ z => z) (Nat.le_refl _) (Nat.le_refl _)⟩
theorem c_draw (q : WA h w m b l) (hw : HW h) : Ev G 0 m_X2_draw [.ref w, .int 100] h (fun v h' => v = .int (drF (sdF m)) ∧ WA h' w (upd m 8 (sdF m)) b l ∧ HF (InW w) 0 0 h h') := by
  have o := wa_o q
  refine wc_in mt_X2_draw rfl (L := [.ref w, .int 100]) rfl ?_
  refine r_aload_0 rfl ?_
  refine r_push rfl ?_
  refine r_aload_0 rfl ?_
  refine r_getf rfl (by assumption) (by rfl) ?_
  refine r_imul rfl ?_
  refine r_push rfl ?_
  refine r_iadd rfl ?_
  refine r_puti rfl (o) rfl ?_
  refine r_aload_0 rfl ?_
  refine r_getf rfl (am_set_at) (by rfl) ?_
  refine r_push rfl ?_
  refine r_iushr rfl ?_
  refine r_push rfl ?_
  refine r_iand rfl ?_
  refine r_iload_1 rfl ?_
  refine r_irem rfl (by decide) ?_
  refine r_iret rfl ?_
  exact ⟨_, _, rfl, rfl, q.ob (k := 8) (by decide), q.hf hw (i := 0) (by decide)⟩
theorem c_adds (q : WA h w m b l) (hw : HW h) {s : Nat} (hs : s < 10) (e4 : m 4 = nI s) (who whom n worn : Int32) : Ev G 0 m_X2_adds [.ref w, .int who, .int whom, .int n, .int worn] h (fun v h' => v = .int (nI s) ∧ WA h' w (adF m who whom n worn) (upd b s worn) l ∧ HF (InW w) 0 0 h h') := by
  have o := wa_o q
  have ec : (m 4).toNatClampNeg = s := by rw [e4]; exact nI_clamp (by omega)
  refine wc_in mt_X2_adds rfl (L := [.ref w, .int who, .int whom, .int n, .int worn, am_un]) rfl ?_
  have q1 := q.de (v := who) hs
  have q2 := q1.le (v := whom) hs
  have q3 := q2.we (v := n) hs
  have q4 := q3.st (v := 0) hs
  have q5 := q4.by13 (v := worn) hs
  have f1 := q.hf hw (i := 9) (x := .inl (0, 10, .inl (upd (cl 10 fun p => m (69 + 6 * p)) s who))) (by decide)
  refine r_aload_0 rfl ?_
  refine r_getf rfl o rfl ?_
  rw [e4]
  refine r_istore_5 rfl ?_
  refine r_aload_0 rfl ?_
  refine r_getf rfl o rfl ?_
  refine r_iload_5 rfl ?_
  refine r_iload_1 rfl ?_
  refine r_iast rfl (wa_de q) rfl hs (by decide) ?_
  refine r_aload_0 rfl ?_
  refine r_getf rfl (wa_o q1) rfl ?_
  refine r_iload_5 rfl ?_
  refine r_iload_2 rfl ?_
  refine r_iast rfl (wa_le q1) rfl hs (by decide) ?_
  have f2 := q1.hf2 f1 (i := 10) (x := .inl (0, 10, .inl (upd (cl 10 fun p => upd m (69 + 6 * s) who (70 + 6 * p)) s whom))) (by decide)
  refine r_aload_0 rfl ?_
  refine r_getf rfl (wa_o q2) rfl ?_
  refine r_iload_5 rfl ?_
  refine r_iload_3 rfl ?_
  refine r_iast rfl (wa_we q2) rfl hs (by decide) ?_
  have f3 := q2.hf2 f2 (i := 11) (x := .inl (0, 10, .inl (upd (cl 10 fun p => upd (upd m (69 + 6 * s) who) (70 + 6 * s) whom (71 + 6 * p)) s n))) (by decide)
  refine r_aload_0 rfl ?_
  refine r_getf rfl (wa_o q3) rfl ?_
  refine r_iload_5 rfl ?_
  refine r_push rfl ?_
  refine r_iast rfl (wa_st q3) rfl hs (by decide) ?_
  have f4 := q3.hf2 f3 (i := 12) (x := .inl (0, 10, .inl (upd (cl 10 fun p => upd (upd (upd m (69 + 6 * s) who) (70 + 6 * s) whom) (71 + 6 * s) n (72 + 6 * p)) s 0))) (by decide)
  refine r_aload_0 rfl ?_
  refine r_getf rfl (wa_o q4) rfl ?_
  refine r_iload_5 rfl ?_
  refine r_iload_4 rfl ?_
  refine r_iast rfl (wa_by q4) rfl hs (by decide) ?_
  have f5 := q4.hf2 f4 (i := 13) (x := .inl (0, 10, .inl (upd (cl 10 b) s worn))) (by decide)
  refine r_aload_0 rfl ?_
  refine r_dupR rfl ?_
  refine r_getf rfl (wa_o q5) rfl ?_
  refine r_push rfl ?_
  refine r_iadd rfl ?_
  refine r_puti rfl (wa_o q5) rfl ?_
  rw [wo_2]
  have q6 := q5.ob (k := 4) (v := upd (upd (upd (upd m (69 + 6 * s) who) (70 + 6 * s) whom) (71 + 6 * s) n) (72 + 6 * s) 0 4 + 1) (by decide)
  have f6 := q5.hf2 f5 (i := 0) (x := .inr (1, wobj w (upd (upd (upd (upd (upd m (69 + 6 * s) who) (70 + 6 * s) whom) (71 + 6 * s) n) (72 + 6 * s) 0) 4 (upd (upd (upd (upd m (69 + 6 * s) who) (70 + 6 * s) whom) (71 + 6 * s) n) (72 + 6 * s) 0 4 + 1)) l)) (by decide)
  refine r_iload_5 rfl ?_
  refine r_iret rfl ?_
  refine ⟨_, _, rfl, rfl, ?_, f6⟩
  refine q6.same2 (fun k hk => ?_)
  simp only [adF, ec, upd]
  (repeat' split) <;> first | rfl | omega | (exfalso; omega)
theorem c_tells (q : WA h w m b l) (hw : HW h) (s what n : Int32) : En G 1 m_X2_tells [.ref w, .int s, .int what, .int n] h (fun h' => WA h' w (tlF m s what n) b l ∧ HF (InW w) 0 0 h h') := by
  have o := wa_o q
  have a := wa_lo q
  have ne : w + 14 ≠ w := by omega
  refine wc_in mt_X2_tells rfl (L := [.ref w, .int s, .int what, .int n]) rfl ?_
  refine r_aload_0 rfl ?_
  refine r_getf rfl o rfl ?_
  refine r_push rfl ?_
  refine r_aload_0 rfl ?_
  refine r_getf rfl o rfl ?_
  refine r_push rfl ?_
  refine r_aload_0 rfl ?_
  refine r_getf rfl o rfl ?_
  refine r_alen rfl a ?_
  refine r_push rfl ?_
  refine r_isub rfl ?_
  refine r_copy rfl rfl a a (s := 0) (p := 4) (n := 236) rfl rfl rfl (by decide) (by decide) (by decide) (by decide) rfl ?_
  refine r_aload_0 rfl ?_
  refine r_getf rfl (am_set_k o (Ne.symm ne)) rfl ?_
  refine r_push rfl ?_
  refine r_aload_0 rfl ?_
  refine r_getf rfl (am_set_k o (Ne.symm ne)) rfl ?_
  refine r_iast rfl am_set_at (j := 0) rfl (by decide) (by decide) ?_
  rw [am_set_set]
  refine r_aload_0 rfl ?_
  refine r_getf rfl (am_set_k o (Ne.symm ne)) rfl ?_
  refine r_push rfl ?_
  refine r_iload_1 rfl ?_
  refine r_iast rfl am_set_at (j := 1) rfl (by decide) (by decide) ?_
  rw [am_set_set]
  refine r_aload_0 rfl ?_
  refine r_getf rfl (am_set_k o (Ne.symm ne)) rfl ?_
  refine r_push rfl ?_
  refine r_iload_2 rfl ?_
  refine r_iast rfl am_set_at (j := 2) rfl (by decide) (by decide) ?_
  rw [am_set_set]
  refine r_aload_0 rfl ?_
  refine r_getf rfl (am_set_k o (Ne.symm ne)) rfl ?_
  refine r_push rfl ?_
  refine r_iload_3 rfl ?_
  refine r_iast rfl am_set_at (j := 3) rfl (by decide) (by decide) ?_
  rw [am_set_set]
  refine r_aload_0 rfl ?_
  refine r_push rfl ?_
  refine r_aload_0 rfl ?_
  refine r_getf rfl (am_set_k o (Ne.symm ne)) rfl ?_
  refine r_push rfl ?_
  refine r_iadd rfl ?_
  refine r_invP_2 rfl rfl (by decide) (c_min _ _) ?_
  refine r_puti rfl (am_set_k o (Ne.symm ne)) rfl ?_
  rw [wo_5]
  refine r_vret rfl ?_
  refine ⟨_, rfl, ?_, HF.setP (q.hf hw (i := 14) (by decide)) (am_set_k o (Ne.symm ne)) ⟨Nat.le_refl _, by omega⟩⟩
  intro j hj
  by_cases z0 : j = 0
  · subst z0; exact am_set_at
  · rw [am_set_ne (by omega)]
    by_cases z14 : j = 14
    · subst z14
      rw [am_set_at]
      show some (Sum.inl (0, 240, Sum.inl _)) = some (Sum.inl (0, 240, Sum.inl (cl 240 fun k => tlF m s what n (129 + k))))
      congr 5
      funext i
      by_cases h4 : i < 4
      · rcases (show i = 0 ∨ i = 1 ∨ i = 2 ∨ i = 3 by omega) with rfl | rfl | rfl | rfl <;> rfl
      · rw [upd_ne (by omega), upd_ne (by omega), upd_ne (by omega), upd_ne (by omega)]
        unfold va_cpy
        by_cases h5 : i < 240
        · rw [if_pos ⟨by omega, by omega⟩, cl_in (by omega), cl_in h5]
          unfold tlF
          rw [if_neg (by omega), if_neg (by omega), if_neg (by omega), if_neg (by omega), if_neg (by omega), if_pos ⟨by omega, by omega⟩]
          congr 1
          omega
        · rw [if_neg (by omega)]
          unfold cl
          rw [if_neg h5, if_neg h5]
    · rw [am_set_ne (by omega), q j hj]
      refine congrArg some (wcl_eq hj (fun k z => ?_) (fun _ _ _ => rfl) (fun y => absurd y z0)).symm
      unfold tlF
      have hk : k ≠ 7 ∧ (k < 129 ∨ 369 ≤ k) := by
        constructor
        · rintro rfl
          exact z ⟨fun y => absurd y z0, fun _ _ => Or.inl (by decide), fun _ => Or.inl (by decide), fun _ => Or.inl (by decide), fun _ _ => Or.inl (by decide), fun y => absurd y z14⟩
        · by_cases y1 : k < 129
          · exact Or.inl y1
          · by_cases y2 : 369 ≤ k
            · exact Or.inr y2
            · exact absurd (show noP j k from ⟨fun _ => by omega, fun _ _ => by omega, fun _ => by omega, fun _ => by omega, fun _ _ => by omega, fun y => absurd y z14⟩) z
      rw [if_neg hk.1, if_neg (by omega), if_neg (by omega), if_neg (by omega), if_neg (by omega), if_neg (by omega)]
theorem c_row {a c n : Nat} {f g : Nat → Int32} (ha : h.1 a = some (.inl (0, n, .inl (cl n f)))) (hb : h.1 c = some (.inl (0, n, .inl (cl n g)))) (hn : n ≤ 1000) : En G 0 m_X2_row [.ref a, .ref c] h (fun h' => h' = am_set h c (.inl (0, n, .inl (cl n f)))) := by
  refine wc_in mt_X2_row rfl (L := [.ref a, .ref c]) rfl ?_
  refine r_aload_0 rfl ?_
  refine r_push rfl ?_
  refine r_aload_1 rfl ?_
  refine r_push rfl ?_
  refine r_aload_1 rfl ?_
  refine r_alen rfl hb ?_
  refine r_copy rfl rfl ha hb (s := 0) (p := 0) rfl rfl rfl (by omega) (by omega) (by omega) (by omega) rfl ?_
  refine r_vret rfl ?_
  refine ⟨_, rfl, ?_⟩
  rw [show va_cpy (cl n f) (cl n g) 0 0 n = cl n f from cpy_all]
/-- one World becomes like another one -/
theorem c_likens {w2 : Nat} {m2 b2 : Nat → Int32} {l2 : Value} (q : WA h w m b l) (q2 : WA h w2 m2 b2 l2) (hw : HW h) (hd : w + 15 ≤ w2 ∨ w2 + 15 ≤ w) (hl : l2 = .null ∨ ∃ a, l2 = .ref a) : Ev G 1 m_X2_likens [.ref w, .ref w2] h (fun v h' => v = .ref w ∧ WA h' w m2 b2 l2 ∧ HF (InW w) 0 0 h h') := by
  have o := wa_o q
  have p := wa_o q2
  have nw : ∀ i, i < 15 → w2 + i ≠ w := fun i hi => by omega
  have nj : ∀ i j, i < 15 → j < 15 → w2 + i ≠ w + j := fun i j hi hj => by omega
  have nn : ∀ i j, i < 15 → j < 15 → i ≠ j → w + i ≠ w + j := fun i j hi hj z => by omega
  have p0 : ∀ {x : am_C}, (am_set h w x).1 w2 = some (.inr (1, wobj w2 m2 l2)) := fun {x} => am_set_k p (nw 0 (by decide))
  refine wc_in mt_X2_likens rfl (L := [.ref w, .ref w2]) rfl ?_
  refine r_aload_0 rfl ?_
  refine r_aload_1 rfl ?_
  refine r_getf rfl p rfl ?_
  refine r_puti rfl o rfl ?_
  rw [wo_0]
  refine r_aload_0 rfl ?_
  refine r_aload_1 rfl ?_
  refine r_getf rfl p0 rfl ?_
  refine r_puti rfl am_set_at rfl ?_
  rw [wo_1, am_set_set]
  refine r_aload_0 rfl ?_
  refine r_aload_1 rfl ?_
  refine r_getf rfl p0 rfl ?_
  refine r_puti rfl am_set_at rfl ?_
  rw [wo_2, am_set_set]
  refine r_aload_0 rfl ?_
  refine r_aload_1 rfl ?_
  refine r_getf rfl p0 rfl ?_
  refine r_puti rfl am_set_at rfl ?_
  rw [wo_3, am_set_set]
  refine r_aload_0 rfl ?_
  refine r_aload_1 rfl ?_
  refine r_getf rfl p0 rfl ?_
  refine r_puti rfl am_set_at rfl ?_
  rw [wo_4, am_set_set]
  refine r_aload_0 rfl ?_
  refine r_aload_1 rfl ?_
  refine r_getf rfl p0 rfl ?_
  refine r_puti rfl am_set_at rfl ?_
  rw [wo_5, am_set_set]
  refine r_aload_0 rfl ?_
  refine r_aload_1 rfl ?_
  refine r_getf rfl p0 rfl ?_
  refine r_puti rfl am_set_at rfl ?_
  rw [wo_6, am_set_set]
  refine r_aload_0 rfl ?_
  refine r_aload_1 rfl ?_
  refine r_getf rfl p0 rfl ?_
  refine r_putaO hl rfl am_set_at rfl ?_
  rw [wo_21, am_set_set]
  generalize hm : upd (upd (upd (upd (upd (upd (upd m 0 (m2 0)) 3 (m2 3)) 4 (m2 4)) 6 (m2 6)) 5 (m2 5)) 7 (m2 7)) 8 (m2 8) = mm
  have eo : (.inr (1, wobj w mm l2) : am_C) = wcl w m2 b2 l2 0 := by
    subst hm
    rfl
  have q20 : ∀ j, j < 15 → (am_set h w (.inr (1, wobj w mm l2))).1 (w2 + j) = some (wcl w2 m2 b2 l2 j) := fun j hj => am_set_k (q2 j hj) (nw j hj)
  have q0 : ∀ j, j < 15 → (am_set h w (.inr (1, wobj w mm l2))).1 (w + j) = some (if j < 1 then wcl w m2 b2 l2 j else wcl w m b l j) := fun j hj => by
    by_cases z : j = 0
    · subst z; rw [if_pos (by decide), ← eo]; exact am_set_at
    · rw [if_neg (by omega), am_set_ne (by omega)]; exact q j hj
  have f0 : HF (InW w) 0 0 h (am_set h w (.inr (1, wobj w mm l2))) := q.hf hw (i := 0) (by decide)
  generalize am_set h w (.inr (1, wobj w mm l2)) = h0 at q20 q0 f0 ⊢
  have oA1 : h0.1 w = some (.inr (1, wobj w m2 l2)) := q0 0 (by decide)
  have oB1 : h0.1 w2 = some (.inr (1, wobj w2 m2 l2)) := q20 0 (by decide)
  refine r_aload_1 rfl ?_
  refine r_getf rfl oB1 rfl ?_
  refine r_aload_0 rfl ?_
  refine r_getf rfl oA1 rfl ?_
  refine r_invF rfl rfl rfl (by decide) (c_row (q20 1 (by decide)) (q0 1 (by decide)) (by decide)) ?_
  rintro h9 rfl
  have s1 := lik_step (i := 1) nj (by decide) q20 q0 f0 (by decide)
  obtain ⟨q21, q1, f1⟩ := s1
  simp only [wcl] at q21 q1 f1
  generalize hh1 : am_set h0 (w + 1) _ = h1 at q21 q1 f1 ⊢
  have oA2 : h1.1 w = some (.inr (1, wobj w m2 l2)) := q1 0 (by decide)
  have oB2 : h1.1 w2 = some (.inr (1, wobj w2 m2 l2)) := q21 0 (by decide)
  refine r_aload_1 rfl ?_
  refine r_getf rfl oB2 rfl ?_
  refine r_aload_0 rfl ?_
  refine r_getf rfl oA2 rfl ?_
  refine r_invF rfl rfl rfl (by decide) (c_row (q21 2 (by decide)) (q1 2 (by decide)) (by decide)) ?_
  rintro h9 rfl
  have s2 := lik_step (i := 2) nj (by decide) q21 q1 f1 (by decide)
  obtain ⟨q22, q2, f2⟩ := s2
  simp only [wcl] at q22 q2 f2
  generalize hh2 : am_set h1 (w + 2) _ = h2 at q22 q2 f2 ⊢
  have oA3 : h2.1 w = some (.inr (1, wobj w m2 l2)) := q2 0 (by decide)
  have oB3 : h2.1 w2 = some (.inr (1, wobj w2 m2 l2)) := q22 0 (by decide)
  refine r_aload_1 rfl ?_
  refine r_getf rfl oB3 rfl ?_
  refine r_aload_0 rfl ?_
  refine r_getf rfl oA3 rfl ?_
  refine r_invF rfl rfl rfl (by decide) (c_row (q22 3 (by decide)) (q2 3 (by decide)) (by decide)) ?_
  rintro h9 rfl
  have s3 := lik_step (i := 3) nj (by decide) q22 q2 f2 (by decide)
  obtain ⟨q23, q3, f3⟩ := s3
  simp only [wcl] at q23 q3 f3
  generalize hh3 : am_set h2 (w + 3) _ = h3 at q23 q3 f3 ⊢
  have oA4 : h3.1 w = some (.inr (1, wobj w m2 l2)) := q3 0 (by decide)
  have oB4 : h3.1 w2 = some (.inr (1, wobj w2 m2 l2)) := q23 0 (by decide)
  refine r_aload_1 rfl ?_
  refine r_getf rfl oB4 rfl ?_
  refine r_aload_0 rfl ?_
  refine r_getf rfl oA4 rfl ?_
  refine r_invF rfl rfl rfl (by decide) (c_row (q23 4 (by decide)) (q3 4 (by decide)) (by decide)) ?_
  rintro h9 rfl
  have s4 := lik_step (i := 4) nj (by decide) q23 q3 f3 (by decide)
  obtain ⟨q24, q4, f4⟩ := s4
  simp only [wcl] at q24 q4 f4
  generalize hh4 : am_set h3 (w + 4) _ = h4 at q24 q4 f4 ⊢
  have oA5 : h4.1 w = some (.inr (1, wobj w m2 l2)) := q4 0 (by decide)
  have oB5 : h4.1 w2 = some (.inr (1, wobj w2 m2 l2)) := q24 0 (by decide)
  refine r_aload_1 rfl ?_
  refine r_getf rfl oB5 rfl ?_
  refine r_aload_0 rfl ?_
  refine r_getf rfl oA5 rfl ?_
  refine r_invF rfl rfl rfl (by decide) (c_row (q24 5 (by decide)) (q4 5 (by decide)) (by decide)) ?_
  rintro h9 rfl
  have s5 := lik_step (i := 5) nj (by decide) q24 q4 f4 (by decide)
  obtain ⟨q25, q5, f5⟩ := s5
  simp only [wcl] at q25 q5 f5
  generalize hh5 : am_set h4 (w + 5) _ = h5 at q25 q5 f5 ⊢
  have oA6 : h5.1 w = some (.inr (1, wobj w m2 l2)) := q5 0 (by decide)
  have oB6 : h5.1 w2 = some (.inr (1, wobj w2 m2 l2)) := q25 0 (by decide)
  refine r_aload_1 rfl ?_
  refine r_getf rfl oB6 rfl ?_
  refine r_push rfl ?_
  refine r_aload_0 rfl ?_
  refine r_getf rfl oA6 rfl ?_
  refine r_push rfl ?_
  refine r_push rfl ?_
  refine r_copy rfl rfl (q25 6 (by decide)) (q5 6 (by decide)) (s := 0) (p := 0) (n := 6) rfl rfl rfl (by decide) (by decide) (by decide) (by decide) rfl ?_
  rw [cpy_all]
  have s6 := lik_step (i := 6) nj (by decide) q25 q5 f5 (by decide)
  obtain ⟨q26, q6, f6⟩ := s6
  simp only [wcl] at q26 q6 f6
  generalize hh6 : am_set h5 (w + 6) _ = h6 at q26 q6 f6 ⊢
  have oA7 : h6.1 w = some (.inr (1, wobj w m2 l2)) := q6 0 (by decide)
  have oB7 : h6.1 w2 = some (.inr (1, wobj w2 m2 l2)) := q26 0 (by decide)
  refine r_aload_1 rfl ?_
  refine r_getf rfl oB7 rfl ?_
  refine r_push rfl ?_
  refine r_aload_0 rfl ?_
  refine r_getf rfl oA7 rfl ?_
  refine r_push rfl ?_
  refine r_push rfl ?_
  refine r_copy rfl rfl (q26 7 (by decide)) (q6 7 (by decide)) (s := 0) (p := 0) (n := 12) rfl rfl rfl (by decide) (by decide) (by decide) (by decide) rfl ?_
  rw [cpy_all]
  have s7 := lik_step (i := 7) nj (by decide) q26 q6 f6 (by decide)
  obtain ⟨q27, q7, f7⟩ := s7
  simp only [wcl] at q27 q7 f7
  generalize hh7 : am_set h6 (w + 7) _ = h7 at q27 q7 f7 ⊢
  have oA8 : h7.1 w = some (.inr (1, wobj w m2 l2)) := q7 0 (by decide)
  have oB8 : h7.1 w2 = some (.inr (1, wobj w2 m2 l2)) := q27 0 (by decide)
  refine r_aload_1 rfl ?_
  refine r_getf rfl oB8 rfl ?_
  refine r_aload_0 rfl ?_
  refine r_getf rfl oA8 rfl ?_
  refine r_invF rfl rfl rfl (by decide) (c_row (q27 8 (by decide)) (q7 8 (by decide)) (by decide)) ?_
  rintro h9 rfl
  have s8 := lik_step (i := 8) nj (by decide) q27 q7 f7 (by decide)
  obtain ⟨q28, q8, f8⟩ := s8
  simp only [wcl] at q28 q8 f8
  generalize hh8 : am_set h7 (w + 8) _ = h8 at q28 q8 f8 ⊢
  have oA9 : h8.1 w = some (.inr (1, wobj w m2 l2)) := q8 0 (by decide)
  have oB9 : h8.1 w2 = some (.inr (1, wobj w2 m2 l2)) := q28 0 (by decide)
  refine r_aload_1 rfl ?_
  refine r_getf rfl oB9 rfl ?_
  refine r_aload_0 rfl ?_
  refine r_getf rfl oA9 rfl ?_
  refine r_invF rfl rfl rfl (by decide) (c_row (q28 9 (by decide)) (q8 9 (by decide)) (by decide)) ?_
  rintro h9 rfl
  have s9 := lik_step (i := 9) nj (by decide) q28 q8 f8 (by decide)
  obtain ⟨q29, q9, f9⟩ := s9
  simp only [wcl] at q29 q9 f9
  generalize hh9 : am_set h8 (w + 9) _ = h9 at q29 q9 f9 ⊢
  have oA10 : h9.1 w = some (.inr (1, wobj w m2 l2)) := q9 0 (by decide)
  have oB10 : h9.1 w2 = some (.inr (1, wobj w2 m2 l2)) := q29 0 (by decide)
  refine r_aload_1 rfl ?_
  refine r_getf rfl oB10 rfl ?_
  refine r_aload_0 rfl ?_
  refine r_getf rfl oA10 rfl ?_
  refine r_invF rfl rfl rfl (by decide) (c_row (q29 10 (by decide)) (q9 10 (by decide)) (by decide)) ?_
  rintro h9 rfl
  have s10 := lik_step (i := 10) nj (by decide) q29 q9 f9 (by decide)
  obtain ⟨q210, q10, f10⟩ := s10
  simp only [wcl] at q210 q10 f10
  generalize hh10 : am_set h9 (w + 10) _ = h10 at q210 q10 f10 ⊢
  have oA11 : h10.1 w = some (.inr (1, wobj w m2 l2)) := q10 0 (by decide)
  have oB11 : h10.1 w2 = some (.inr (1, wobj w2 m2 l2)) := q210 0 (by decide)
  refine r_aload_1 rfl ?_
  refine r_getf rfl oB11 rfl ?_
  refine r_aload_0 rfl ?_
  refine r_getf rfl oA11 rfl ?_
  refine r_invF rfl rfl rfl (by decide) (c_row (q210 11 (by decide)) (q10 11 (by decide)) (by decide)) ?_
  rintro h9 rfl
  have s11 := lik_step (i := 11) nj (by decide) q210 q10 f10 (by decide)
  obtain ⟨q211, q11, f11⟩ := s11
  simp only [wcl] at q211 q11 f11
  generalize hh11 : am_set h10 (w + 11) _ = h11 at q211 q11 f11 ⊢
  have oA12 : h11.1 w = some (.inr (1, wobj w m2 l2)) := q11 0 (by decide)
  have oB12 : h11.1 w2 = some (.inr (1, wobj w2 m2 l2)) := q211 0 (by decide)
  refine r_aload_1 rfl ?_
  refine r_getf rfl oB12 rfl ?_
  refine r_aload_0 rfl ?_
  refine r_getf rfl oA12 rfl ?_
  refine r_invF rfl rfl rfl (by decide) (c_row (q211 12 (by decide)) (q11 12 (by decide)) (by decide)) ?_
  rintro h9 rfl
  have s12 := lik_step (i := 12) nj (by decide) q211 q11 f11 (by decide)
  obtain ⟨q212, q12, f12⟩ := s12
  simp only [wcl] at q212 q12 f12
  generalize hh12 : am_set h11 (w + 12) _ = h12 at q212 q12 f12 ⊢
  have oA13 : h12.1 w = some (.inr (1, wobj w m2 l2)) := q12 0 (by decide)
  have oB13 : h12.1 w2 = some (.inr (1, wobj w2 m2 l2)) := q212 0 (by decide)
  refine r_aload_1 rfl ?_
  refine r_getf rfl oB13 rfl ?_
  refine r_aload_0 rfl ?_
  refine r_getf rfl oA13 rfl ?_
  refine r_invF rfl rfl rfl (by decide) (c_row (q212 13 (by decide)) (q12 13 (by decide)) (by decide)) ?_
  rintro h9 rfl
  have s13 := lik_step (i := 13) nj (by decide) q212 q12 f12 (by decide)
  obtain ⟨q213, q13, f13⟩ := s13
  simp only [wcl] at q213 q13 f13
  generalize hh13 : am_set h12 (w + 13) _ = h13 at q213 q13 f13 ⊢
  have oA14 : h13.1 w = some (.inr (1, wobj w m2 l2)) := q13 0 (by decide)
  have oB14 : h13.1 w2 = some (.inr (1, wobj w2 m2 l2)) := q213 0 (by decide)
  refine r_aload_1 rfl ?_
  refine r_getf rfl oB14 rfl ?_
  refine r_aload_0 rfl ?_
  refine r_getf rfl oA14 rfl ?_
  refine r_invF rfl rfl rfl (by decide) (c_row (q213 14 (by decide)) (q13 14 (by decide)) (by decide)) ?_
  rintro h9 rfl
  have s14 := lik_step (i := 14) nj (by decide) q213 q13 f13 (by decide)
  obtain ⟨q214, q14, f14⟩ := s14
  simp only [wcl] at q214 q14 f14
  generalize hh14 : am_set h13 (w + 14) _ = h14 at q214 q14 f14 ⊢
  refine r_aload_0 rfl ?_
  refine r_aret rfl ?_
  refine ⟨_, _, rfl, rfl, fun j hj => ?_, f14⟩
  rw [q14 j hj, if_pos (by omega)]
  rfl
end
