/-! THE MODEL reads: its cell, its letters, words, numbers -/
set_option maxRecDepth 100000
/-- the model's object, by its numbers -/
def mobj (y : Nat) (g : Nat → Int32) : List Value := [.int (g 0), .ref (y + 1), .ref (y + 2), .int (g 3), .ref (y + 3), .ref (y + 4), .int (g 6), .ref (y + 5), .int (g 8), .int (g 9), .int (g 10), .int (g 11), .int (g 12), .int (g 13), .ref (y + 6), .int (g 15), .int (g 16), .int (g 17), .int (g 18), .int (g 19), .ref (y + 7), .ref (y + 8), .ref (y + 9)]
abbrev mcell (y : Nat) (g : Nat → Int32) : am_C := .inr (16, mobj y g)
theorem mo_0 (y : Nat) (g : Nat → Int32) (v : Int32) : am_st (mobj y g) 0 (.int v) = mobj y (upd g 0 v) := rfl
theorem mo_3 (y : Nat) (g : Nat → Int32) (v : Int32) : am_st (mobj y g) 3 (.int v) = mobj y (upd g 3 v) := rfl
theorem mo_6 (y : Nat) (g : Nat → Int32) (v : Int32) : am_st (mobj y g) 6 (.int v) = mobj y (upd g 6 v) := rfl
theorem mo_8 (y : Nat) (g : Nat → Int32) (v : Int32) : am_st (mobj y g) 8 (.int v) = mobj y (upd g 8 v) := rfl
theorem mo_9 (y : Nat) (g : Nat → Int32) (v : Int32) : am_st (mobj y g) 9 (.int v) = mobj y (upd g 9 v) := rfl
theorem mo_10 (y : Nat) (g : Nat → Int32) (v : Int32) : am_st (mobj y g) 10 (.int v) = mobj y (upd g 10 v) := rfl
theorem mo_11 (y : Nat) (g : Nat → Int32) (v : Int32) : am_st (mobj y g) 11 (.int v) = mobj y (upd g 11 v) := rfl
theorem mo_12 (y : Nat) (g : Nat → Int32) (v : Int32) : am_st (mobj y g) 12 (.int v) = mobj y (upd g 12 v) := rfl
theorem mo_13 (y : Nat) (g : Nat → Int32) (v : Int32) : am_st (mobj y g) 13 (.int v) = mobj y (upd g 13 v) := rfl
theorem mo_15 (y : Nat) (g : Nat → Int32) (v : Int32) : am_st (mobj y g) 15 (.int v) = mobj y (upd g 15 v) := rfl
theorem mo_16 (y : Nat) (g : Nat → Int32) (v : Int32) : am_st (mobj y g) 16 (.int v) = mobj y (upd g 16 v) := rfl
theorem mo_17 (y : Nat) (g : Nat → Int32) (v : Int32) : am_st (mobj y g) 17 (.int v) = mobj y (upd g 17 v) := rfl
theorem mo_18 (y : Nat) (g : Nat → Int32) (v : Int32) : am_st (mobj y g) 18 (.int v) = mobj y (upd g 18 v) := rfl
theorem mo_19 (y : Nat) (g : Nat → Int32) (v : Int32) : am_st (mobj y g) 19 (.int v) = mobj y (upd g 19 v) := rfl
theorem upd_upd {g : Nat → Int32} {k : Nat} {v w : Int32} : upd (upd g k v) k w = upd g k w := by
  funext j
  unfold upd
  by_cases z : j = k
  · rw [if_pos z, if_pos z]
  · rw [if_neg z, if_neg z, if_neg z]
theorem upd_id {g : Nat → Int32} {k : Nat} {v : Int32} (h : g k = v) : upd g k v = g := by
  funext j
  unfold upd
  by_cases z : j = k
  · rw [if_pos z, z, h]
  · rw [if_neg z]
theorem upd_comm {g : Nat → Int32} {j k : Nat} {v w : Int32} (h : j ≠ k) : upd (upd g j v) k w = upd (upd g k w) j v := by
  funext i
  unfold upd
  by_cases z : i = k
  · rw [if_pos z, if_neg (by omega), if_pos z]
  · rw [if_neg z]
    by_cases z1 : i = j
    · rw [if_pos z1, if_pos z1]
    · rw [if_neg z1, if_neg z1, if_neg z]
/-- the model at y reads the text T of e letters -/
def MP (h : am_H) (y : Nat) (g : Nat → Int32) (T : Nat → Int32) (e : Nat) : Prop := h.1 y = some (mcell y g) ∧ (∃ mm tp : Nat → Int32, h.1 (y + 1) = some (.inl (0, 769, .inl mm)) ∧ h.1 (y + 5) = some (.inl (0, 400, .inl tp)) ∧ ((g 9 = -1 ∧ ∀ k, k < 400 → tp k = T k) ∨ (g 9 = 369 ∧ ∀ k, k < 400 → mm (369 + k) = T k))) ∧ g 10 = nI e ∧ e ≤ 400
/-- the heap, the model's numbers being g -/
abbrev mh (h : am_H) (y : Nat) (g : Nat → Int32) : am_H := am_set h y (mcell y g)
theorem mh_mh {h : am_H} {y : Nat} {g g' : Nat → Int32} : mh (mh h y g) y g' = mh h y g' := am_set_set
section
variable {T : Nat → Int32} {e y : Nat} {g g' : Nat → Int32} {h : am_H} {G : am_G}
theorem MP.set (q : MP h y g T e) (h9 : g' 9 = g 9) (h10 : g' 10 = g 10) : MP (mh h y g') y g' T e := by
  obtain ⟨q1, ⟨mm, tp, q2, q3, q4⟩, q5, q6⟩ := q
  exact ⟨am_set_at, ⟨mm, tp, am_set_k q2 (by omega), am_set_k q3 (by omega), by rw [h9]; exact q4⟩, by rw [h10]; exact q5, q6⟩
theorem c_mLetter (q : MP h y g T e) {k : Nat} (hk : k < 400) : Vc G 0 m_X6_letter [.ref y, .int (nI k)] h (.int (T k)) := by
  obtain ⟨o, ⟨mm, tp, o1, o2, q4⟩, -⟩ := q
  refine wc_in mt_X6_letter rfl (L := [.ref y, .int (nI k)]) rfl ?_
  rcases q4 with ⟨hb, hT⟩ | ⟨hb, hT⟩
  · refine r_aload_0 rfl ?_
    refine r_getf rfl (by assumption) (by rfl) ?_
    refine r_push rfl ?_
    refine r_icneF rfl (hb) ?_
    refine r_aload_0 rfl ?_
    refine r_getf rfl (by assumption) (by rfl) ?_
    refine r_iload_1 rfl ?_
    refine r_iald rfl (o2) (by rfl) (hk) (by first | decide | omega) ?_
    refine r_goto rfl ?_
    refine r_iret rfl ?_
    rw [hT k hk]
  · refine r_aload_0 rfl ?_
    refine r_getf rfl o rfl ?_
    refine r_push rfl ?_
    refine r_icneT rfl (by rw [hb]; decide) ?_
    refine r_aload_0 rfl ?_
    refine r_getf rfl o rfl ?_
    refine r_aload_0 rfl ?_
    refine r_getf rfl o rfl ?_
    refine r_iload_1 rfl ?_
    refine r_iadd rfl ?_
    rw [hb, show (369 : Int32) = nI 369 from rfl, nI_add]
    refine r_iald rfl o1 rfl (by omega) (by decide) ?_
    refine r_iret rfl ?_
    rw [hT k hk]
theorem c_mSkipL : ∀ a, ∀ h g, MP h y g T e → g 11 = nI a → a ≤ e → Wp G 1 mt_X6_skip 0 [.ref y] [] h (fun R => R = .inl (none, mh h y (upd g 11 (nI (skF T e a))))) := by
  refine scan_ind (p := isBl) (T := T) (e := e) (fun a ha hp ih => ?_) (fun a ha => ?_)
  · intro h g q hg hae
    have q0 := q
    have he := q.2.2.2
    have ge := q.2.2.1
    have o := q.1
    have ea : skF T e a = skF T e (a + 1) := scan_step ha hp
    refine r_aload_0 rfl ?_
    refine r_getf rfl o rfl ?_
    refine r_aload_0 rfl ?_
    refine r_getf rfl o rfl ?_
    rw [hg, ge]
    refine r_icgeF rfl (nI_lt ha (by omega)) ?_
    refine r_aload_0 rfl ?_
    refine r_aload_0 rfl ?_
    refine r_getf rfl o rfl ?_
    rw [hg]
    refine r_invvP_1 rfl o rfl rfl (by decide) (c_mLetter q0 (by omega)) ?_
    refine r_push rfl ?_
    refine r_icneF rfl (of_decide_eq_true hp) ?_
    refine r_aload_0 rfl ?_
    refine r_dupR rfl ?_
    refine r_getf rfl o rfl ?_
    rw [hg]
    refine r_push rfl ?_
    refine r_iadd rfl ?_
    rw [nI_1]
    refine r_puti rfl o rfl ?_
    rw [mo_11]
    refine r_goto rfl ?_
    have := ih (mh h y (upd g 11 (nI (a + 1)))) _ (q0.set rfl rfl) upd_eq (by omega)
    simp only [mh, am_set_set, upd_upd] at this
    rw [ea]
    exact this
  · intro h g q hg hae
    have q0 := q
    have he := q.2.2.2
    have ge := q.2.2.1
    have o := q.1
    have ea : skF T e a = a := scan_stop ha
    rw [ea, upd_id hg, show mh h y g = h from am_set_id o]
    refine r_aload_0 rfl ?_
    refine r_getf rfl o rfl ?_
    refine r_aload_0 rfl ?_
    refine r_getf rfl o rfl ?_
    rw [hg, ge]
    by_cases z : a < e
    · refine r_icgeF rfl (nI_lt z (by omega)) ?_
      refine r_aload_0 rfl ?_
      refine r_aload_0 rfl ?_
      refine r_getf rfl o rfl ?_
      rw [hg]
      refine r_invvP_1 rfl o rfl rfl (by decide) (c_mLetter q0 (by omega)) ?_
      refine r_push rfl ?_
      refine r_icneT rfl (of_decide_eq_false (ha z)) ?_
      exact r_vret rfl rfl
    · refine r_icgeT rfl (nI_le (by omega) (by omega)) ?_
      exact r_vret rfl rfl
theorem c_mSkip (q : MP h y g T e) {a : Nat} (hg : g 11 = nI a) (ha : a ≤ e) : Wc G 1 m_X6_skip [.ref y] h (fun R => R = .inl (none, mh h y (upd g 11 (nI (skF T e a))))) := by
  refine wc_in mt_X6_skip rfl (L := [.ref y]) rfl ?_
  exact c_mSkipL a h g q hg ha
end
/-- a call that answers v, h' is the heap then -/
abbrev Uc (G : am_G) (d k : Nat) (As : List Value) (h : am_H) (v : Value) (h' : am_H) : Prop := Wc G d k As h (fun R => R = .inl (some v, h'))
abbrev Un (G : am_G) (d k : Nat) (As : List Value) (h : am_H) (h' : am_H) : Prop := Wc G d k As h (fun R => R = .inl (none, h'))
section
variable {G : am_G} {d e : Nat} {M : am_M} {pc nx tg n : Nat} {L st st0 As : List Value} {h h' : am_H} {Q : am_O → Prop} {k : Nat} {ds : List (Nat × Nat)} {a c : Nat} {fs : List Value} {v : Value}
theorem r_invvU (hf : M.1 pc = some (a_invv ds n nx)) (hp : am_pop n [] st0 = some (As, .ref a :: st)) (ha : h.1 a = some (.inr (c, fs))) (hk : am_dp c ds = some k) (hw : (Nat.ble (am_wd st) 8 && am_1s As) = true) (hd : e < d) (hc : Uc G e k (.ref a :: As) h v h') (kk : Wp G d M nx L (v :: st) h' Q) : Wp G d M pc L st0 h Q :=
  r_k hf (am_invv_ok hp ha hk hw) hd hc (fun R q => by subst q; exact kk)
theorem r_invvV (hf : M.1 pc = some (a_invv ds n nx)) (hp : am_pop n [] st0 = some (As, .ref a :: st)) (ha : h.1 a = some (.inr (c, fs))) (hk : am_dp c ds = some k) (hw : (Nat.ble (am_wd st) 8 && am_1s As) = true) (hd : e < d) (hc : Un G e k (.ref a :: As) h h') (kk : Wp G d M nx L st h' Q) : Wp G d M pc L st0 h Q :=
  r_k hf (am_invv_ok hp ha hk hw) hd hc (fun R q => by subst q; exact kk)
theorem r_invU (hf : M.1 pc = some (a_inv k n nx)) (hp : am_pop n [] st0 = some (As, st)) (hw : (Nat.ble (am_wd st) 8 && am_1s As) = true) (hd : e < d) (hc : Uc G e k As h v h') (kk : Wp G d M nx L (v :: st) h' Q) : Wp G d M pc L st0 h Q :=
  r_k hf (am_inv_ok hp hw) hd hc (fun R q => by subst q; exact kk)
theorem r_invV (hf : M.1 pc = some (a_inv k n nx)) (hp : am_pop n [] st0 = some (As, st)) (hw : (Nat.ble (am_wd st) 8 && am_1s As) = true) (hd : e < d) (hc : Un G e k As h h') (kk : Wp G d M nx L st h' Q) : Wp G d M pc L st0 h Q :=
  r_k hf (am_inv_ok hp hw) hd hc (fun R q => by subst q; exact kk)
theorem r_invvR {R0 : am_O → Prop} (hf : M.1 pc = some (a_invv ds n nx)) (hp : am_pop n [] st0 = some (As, .ref a :: st)) (ha : h.1 a = some (.inr (c, fs))) (hk : am_dp c ds = some k) (hw : (Nat.ble (am_wd st) 8 && am_1s As) = true) (hd : e < d) (hc : Wc G e k (.ref a :: As) h R0) (kk : ∀ R, R0 R → Wr G d M pc nx L st Q R) : Wp G d M pc L st0 h Q :=
  r_k hf (am_invv_ok hp ha hk hw) hd hc kk
end
section
variable {T : Nat → Int32} {e y : Nat} {g g' : Nat → Int32} {h : am_H} {G : am_G}
theorem c_mHere (q : MP h y g T e) {a : Nat} (hg : g 11 = nI a) (ha : a ≤ e) : Uc G 2 m_X6_here [.ref y] h (.int (nI (skF T e a))) (mh h y (upd g 11 (nI (skF T e a)))) := by
  refine wc_in mt_X6_here rfl (L := [.ref y]) rfl ?_
  refine r_aload_0 rfl ?_
  refine r_invvV rfl rfl q.1 rfl rfl (by decide) (c_mSkip q hg ha) ?_
  refine r_aload_0 rfl ?_
  refine r_getf rfl am_set_at rfl ?_
  exact r_iret rfl rfl
theorem c_mIsSign (q : MP h y g T e) {a : Nat} (hg : g 11 = nI a) (ha : a ≤ e) {c : Int32} : Uc G 2 m_X6_isSign [.ref y, .int c] h (.int (bI (sgF T e a c))) (mh h y (upd g 11 (nI (skF T e a)))) := by
  have hs := sk_le T ha
  have he := q.2.2.2
  have q1 : MP (mh h y (upd g 11 (nI (skF T e a)))) y (upd g 11 (nI (skF T e a))) T e := q.set rfl rfl
  have ge : (upd g 11 (nI (skF T e a))) 10 = nI e := q1.2.2.1
  refine wc_in mt_X6_isSign rfl (L := [.ref y, .int c]) rfl ?_
  refine r_aload_0 rfl ?_
  refine r_invvV rfl rfl q.1 rfl rfl (by decide) (c_mSkip q hg ha) ?_
  refine r_aload_0 rfl ?_
  refine r_getf rfl am_set_at rfl ?_
  refine r_aload_0 rfl ?_
  refine r_getf rfl am_set_at rfl ?_
  rw [upd_eq, ge]
  by_cases z : skF T e a < e
  · refine r_icgeF rfl (nI_lt z (by omega)) ?_
    refine r_aload_0 rfl ?_
    refine r_aload_0 rfl ?_
    refine r_getf rfl am_set_at rfl ?_
    rw [upd_eq]
    refine r_invvP_1 rfl am_set_at rfl rfl (by decide) (c_mLetter q1 (by omega)) ?_
    refine r_iload_1 rfl ?_
    refine r_icne rfl (fun c_24 => ?_) (fun c_24 => ?_)
    · refine r_push rfl ?_
      refine r_zret rfl (by first | decide | assumption) ?_
      unfold sgF; rw [decide_eq_true z, Bool.true_and]
      first | (rw [decide_eq_true c_24]; rfl) | (rw [decide_eq_false c_24]; rfl)
    · refine r_push rfl ?_
      refine r_goto rfl ?_
      refine r_zret rfl (by first | decide | assumption) ?_
      unfold sgF; rw [decide_eq_true z, Bool.true_and]
      first | (rw [decide_eq_true c_24]; rfl) | (rw [decide_eq_false c_24]; rfl)
  · refine r_icgeT rfl (nI_le (by omega) (by omega)) ?_
    refine r_push rfl ?_
    refine r_zret rfl (by first | decide | assumption) ?_
    unfold sgF; rw [decide_eq_false z]; rfl
theorem c_mWrong (o : h.1 y = some (mcell y g)) (hg : g 12 = -1) (z : Int32) : Un G 0 m_X6_wrong [.ref y, .int z] h (mh h y (upd g 12 z)) := by
  refine wc_in mt_X6_wrong rfl (L := [.ref y, .int z]) rfl ?_
  refine r_aload_0 rfl ?_
  refine r_getf rfl (by assumption) (by rfl) ?_
  refine r_push rfl ?_
  refine r_icneF rfl (hg) ?_
  refine r_aload_0 rfl ?_
  refine r_iload_1 rfl ?_
  refine r_puti rfl (by assumption) rfl ?_
  refine r_vret rfl ?_
  rfl
end
