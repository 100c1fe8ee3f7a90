/-! WHAT IS THROWN: who is there, what can be asked -/
set_option maxRecDepth 100000
/-- a call that throws: class c, one object more -/
abbrev Xc (G : am_G) (d k : Nat) (As : List Value) (h : am_H) (c : Nat) : Prop := Wc G d k As h (fun R => R = .inr (c, am_skip h 6))
section
variable {G : am_G} {d e : Nat} {M : am_M} {pc nx n k : Nat} {L st st0 As : List Value} {h : am_H} {Q : am_O → Prop} {ds : List (Nat × Nat)} {a c : Nat} {fs : List Value} {cx : Nat}
theorem r_invX (hf : M.1 pc = some (a_inv k n nx)) (hp : am_pop n [] st0 = some (As, st)) (hw : (Nat.ble (am_wd st) 8 && am_1s As) = true) (hn : M.2.2 = []) (hd : e < d) (hc : Xc G e k As h cx) (kt : Q (.inr (cx, am_skip h 6))) : Wp G d M pc L st0 h Q :=
  r_k hf (am_inv_ok hp hw) hd hc (fun R q => by subst q; simp only [Wr, hn, am_find]; exact kt)
theorem r_invvX (hf : M.1 pc = some (a_invv ds n nx)) (hp : am_pop n [] st0 = some (As, .ref a :: st)) (ha : h.1 a = some (.inr (c, fs))) (hk : am_dp c ds = some k) (hw : (Nat.ble (am_wd st) 8 && am_1s As) = true) (hn : M.2.2 = []) (hd : e < d) (hc : Xc G e k (.ref a :: As) h cx) (kt : Q (.inr (cx, am_skip h 6))) : Wp G d M pc L st0 h Q :=
  r_k hf (am_invv_ok hp ha hk hw) hd hc (fun R q => by subst q; simp only [Wr, hn, am_find]; exact kt)
/-- a call that answers nothing and leaves the heap -/
theorem r_invO (hf : M.1 pc = some (a_inv k n nx)) (hp : am_pop n [] st0 = some (As, st)) (hw : (Nat.ble (am_wd st) 8 && am_1s As) = true) (hd : e < d) (hc : Vn G e k As h) (kk : Wp G d M nx L st h Q) : Wp G d M pc L st0 h Q :=
  r_k hf (am_inv_ok hp hw) hd hc (fun R q => by subst q; exact kk)
theorem r_invvO (hf : M.1 pc = some (a_invv ds n nx)) (hp : am_pop n [] st0 = some (As, .ref a :: st)) (ha : h.1 a = some (.inr (c, fs))) (hk : am_dp c ds = some k) (hw : (Nat.ble (am_wd st) 8 && am_1s As) = true) (hd : e < d) (hc : Vn G e k (.ref a :: As) h) (kk : Wp G d M nx L st h Q) : Wp G d M pc L st0 h Q :=
  r_k hf (am_invv_ok hp ha hk hw) hd hc (fun R q => by subst q; exact kk)
end
section
variable {G : am_G} {h : am_H} {x : Nat} {hi : Bool} {m b : Nat → Int32} {l : Value}
theorem c_thereT {p n : Int32} (z : inF p 0 (n - 1) = true) : Vn G 1 m_X1_there [.int p, .int n] h := by
  refine wc_in mt_X1_there rfl (L := [.int p, .int n]) rfl ?_
  refine r_iload_0 rfl ?_
  refine r_push rfl ?_
  refine r_iload_1 rfl ?_
  refine r_push rfl ?_
  refine r_isub rfl ?_
  refine r_invP_3 rfl rfl (by decide) (c_in _ _ _) ?_
  refine r_ifneT rfl (by rw [z]; decide) ?_
  refine r_vret rfl ?_
  rfl
theorem c_thereF {p n : Int32} (z : inF p 0 (n - 1) = false) : Xc G 1 m_X1_there [.int p, .int n] h 20 := by
  refine wc_in mt_X1_there rfl (L := [.int p, .int n]) rfl ?_
  refine r_iload_0 rfl ?_
  refine r_push rfl ?_
  refine r_iload_1 rfl ?_
  refine r_push rfl ?_
  refine r_isub rfl ?_
  refine r_invP_3 rfl rfl (by decide) (c_in _ _ _) ?_
  refine r_ifneF rfl (by rw [z]; rfl) ?_
  refine r_thr rfl rfl rfl ?_
  rfl
theorem c_demandT {b : Int32} (z : ¬ b = 0) : Vn G 0 m_X1_demand [.int b] h := by
  refine wc_in mt_X1_demand rfl (L := [.int b]) rfl ?_
  refine r_iload_0 rfl ?_
  refine r_ifneT rfl (z) ?_
  refine r_vret rfl ?_
  rfl
theorem c_demandF {b : Int32} (z : b = 0) : Xc G 0 m_X1_demand [.int b] h 18 := by
  refine wc_in mt_X1_demand rfl (L := [.int b]) rfl ?_
  refine r_iload_0 rfl ?_
  refine r_ifneF rfl (z) ?_
  refine r_thr rfl rfl rfl ?_
  rfl
theorem c_canT {b : Int32} (z : ¬ b = 0) : Vn G 0 m_X1_can [.int b] h := by
  refine wc_in mt_X1_can rfl (L := [.int b]) rfl ?_
  refine r_iload_0 rfl ?_
  refine r_ifneT rfl (z) ?_
  refine r_vret rfl ?_
  rfl
theorem c_canF {b : Int32} (z : b = 0) : Xc G 0 m_X1_can [.int b] h 22 := by
  refine wc_in mt_X1_can rfl (L := [.int b]) rfl ?_
  refine r_iload_0 rfl ?_
  refine r_ifneF rfl (z) ?_
  refine r_thr rfl rfl rfl ?_
  rfl
theorem c_questionT {p n : Int32} (z : inF p 0 n = true) : Vn G 1 m_X1_question [.int p, .int n] h := by
  refine wc_in mt_X1_question rfl (L := [.int p, .int n]) rfl ?_
  refine r_iload_0 rfl ?_
  refine r_push rfl ?_
  refine r_iload_1 rfl ?_
  refine r_invP_3 rfl rfl (by decide) (c_in _ _ _) ?_
  refine r_ifneT rfl (by rw [z]; decide) ?_
  refine r_vret rfl ?_
  rfl
theorem c_questionF {p n : Int32} (z : inF p 0 n = false) : Xc G 1 m_X1_question [.int p, .int n] h 21 := by
  refine wc_in mt_X1_question rfl (L := [.int p, .int n]) rfl ?_
  refine r_iload_0 rfl ?_
  refine r_push rfl ?_
  refine r_iload_1 rfl ?_
  refine r_invP_3 rfl rfl (by decide) (c_in _ _ _) ?_
  refine r_ifneF rfl (by rw [z]; rfl) ?_
  refine r_thr rfl rfl rfl ?_
  rfl
theorem c_personAtT (o : h.1 x = some (.inr (0, xobj x hi))) (q : WA h (x + 1) m b l) {p : Int32} (z : inF p 0 (m 3 - 1) = true) : Vn G 2 m_X1_personAt [.ref x, .int p] h := by
  have o1 := wa_o q
  refine wc_in mt_X1_personAt rfl (L := [.ref x, .int p]) rfl ?_
  refine r_iload_1 rfl ?_
  refine r_aload_0 rfl ?_
  refine r_getf rfl o rfl ?_
  refine r_getf rfl o1 rfl ?_
  refine r_invO rfl rfl rfl (by decide) (c_thereT z) ?_
  exact r_vret rfl rfl
theorem c_personAtF (o : h.1 x = some (.inr (0, xobj x hi))) (q : WA h (x + 1) m b l) {p : Int32} (z : inF p 0 (m 3 - 1) = false) : Xc G 2 m_X1_personAt [.ref x, .int p] h 20 := by
  have o1 := wa_o q
  refine wc_in mt_X1_personAt rfl (L := [.ref x, .int p]) rfl ?_
  refine r_iload_1 rfl ?_
  refine r_aload_0 rfl ?_
  refine r_getf rfl o rfl ?_
  refine r_getf rfl o1 rfl ?_
  refine r_invX rfl rfl rfl rfl (by decide) (c_thereF z) ?_
  rfl
theorem c_stoneAtT (o : h.1 x = some (.inr (0, xobj x hi))) (q : WA h (x + 1) m b l) {p : Int32} (z : inF p 0 (m 4 - 1) = true) : Vn G 2 m_X1_stoneAt [.ref x, .int p] h := by
  have o1 := wa_o q
  refine wc_in mt_X1_stoneAt rfl (L := [.ref x, .int p]) rfl ?_
  refine r_iload_1 rfl ?_
  refine r_aload_0 rfl ?_
  refine r_getf rfl o rfl ?_
  refine r_getf rfl o1 rfl ?_
  refine r_invO rfl rfl rfl (by decide) (c_thereT z) ?_
  exact r_vret rfl rfl
theorem c_stoneAtF (o : h.1 x = some (.inr (0, xobj x hi))) (q : WA h (x + 1) m b l) {p : Int32} (z : inF p 0 (m 4 - 1) = false) : Xc G 2 m_X1_stoneAt [.ref x, .int p] h 20 := by
  have o1 := wa_o q
  refine wc_in mt_X1_stoneAt rfl (L := [.ref x, .int p]) rfl ?_
  refine r_iload_1 rfl ?_
  refine r_aload_0 rfl ?_
  refine r_getf rfl o rfl ?_
  refine r_getf rfl o1 rfl ?_
  refine r_invX rfl rfl rfl rfl (by decide) (c_thereF z) ?_
  rfl
theorem c_placeAtT {p : Int32} (z : inF p 0 11 = true) : Vn G 2 m_X1_placeAt [.int p] h := by
  refine wc_in mt_X1_placeAt rfl (L := [.int p]) rfl ?_
  refine r_iload_0 rfl ?_
  refine r_push rfl ?_
  refine r_invO rfl rfl rfl (by decide) (c_thereT z) ?_
  exact r_vret rfl rfl
theorem c_placeAtF {p : Int32} (z : inF p 0 11 = false) : Xc G 2 m_X1_placeAt [.int p] h 20 := by
  refine wc_in mt_X1_placeAt rfl (L := [.int p]) rfl ?_
  refine r_iload_0 rfl ?_
  refine r_push rfl ?_
  refine r_invX rfl rfl rfl rfl (by decide) (c_thereF z) ?_
  rfl
/-- a number that is in its bounds -/
theorem inF_nI {p : Int32} {n : Nat} (hn : n ≤ 1000) (z : inF p 0 (nI n - 1) = true) : ∃ k, k < n ∧ p = nI k := by
  unfold inF at z
  rw [Bool.and_eq_true, decide_eq_true_iff, decide_eq_true_iff] at z
  obtain ⟨z1, z2⟩ := z
  have h1 : 0 ≤ p.toInt := by have := Int32.le_iff_toInt_le.mp z1; exact this
  refine ⟨p.toInt.toNat, ?_, ?_⟩
  · rcases Nat.eq_zero_or_pos n with q | q
    · subst q
      exact absurd (Int32.le_trans z1 z2) (by decide)
    · rw [show (1 : Int32) = nI 1 from rfl, nI_sub q] at z2
      have z3 : p.toInt ≤ (nI (n - 1)).toInt := Int32.le_iff_toInt_le.mp z2
      rw [nI_toInt (by omega)] at z3
      omega
  · apply Int32.toInt_inj.mp
    have hb := Int32.toInt_lt p
    rw [nI_toInt (by omega)]
    omega
end
