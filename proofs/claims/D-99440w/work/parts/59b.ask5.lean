/-! WHAT IS ASKED: does, rests, count on both sides -/
set_option maxRecDepth 100000
def qDoes (m : Nat → Int32) (p w : Int32) : Nat × Int32 := if inF p 0 (m 3 - 1) = false then (1, 0) else if inF w 0 2 = false then (2, 0) else (0, if w = 0 then tiF m p.toNatClampNeg else if w = 1 then eaF m p.toNatClampNeg else huF m p.toNatClampNeg)
/-- the half, or the whole -/
def haF (w a : Int32) : Int32 := if a = 0 then w else w / 2
def lhF (w a c : Int32) : Int32 := if c = 1 then -haF w a else haF w a
def dhF (m : Nat → Int32) (p : Nat) (w a c : Int32) : Int32 := if c = 1 then -10 else m (34 + 6 * p) - loadF m (nI p) - haF w a
def reC (m : Nat → Int32) (p : Nat) (w : Int32) (k : Nat) : Bool := decide (lhF w (1 - nI (k / 2)) (nI (k % 2)) ≤ lhF w (nI (k / 2)) (nI (k % 2))) && decide (dhF m p w (nI (k / 2)) (1 - nI (k % 2)) ≤ dhF m p w (nI (k / 2)) (nI (k % 2)))
def qRests (m : Nat → Int32) (c d w : Int32) : Nat × Int32 := if inF c 0 (m 3 - 1) = false then (1, 0) else if inF d 0 (m 3 - 1) = false then (1, 0) else if c = d ∨ inF w 1 40 = false then (2, 0) else (0, bsF (reC m d.toNatClampNeg w) 4)
section
variable {G : am_G} {bs : Nat} {S : Nat → Prop} {h : am_H} {x y : Nat} {hi : Bool} {m b g : Nat → Int32} {l : Value}
theorem c_xDoes (q : HS G bs x (x + 1) S hi h m b l) (ge : GEO bs x (x + 1) S) (p w : Int32) : Et G 43 m_X1_does [.ref x, .int p, .int w] h (fun v h' => (qDoes m p w).1 = 0 ∧ v = .int (qDoes m p w).2 ∧ HF (isR (x + 48)) 0 0 h h' ∧ ∃ s, h'.1 (x + 48) = some (.inr (3, sobj s))) (QX h (qDoes m p w) (k2 20 21)) := by
  have o := q.2.2.2.2.2.2.1
  have v := q.2.1
  have o1 := wa_o q.1
  refine wc_in mt_X1_does rfl (L := [.ref x, .int p, .int w]) rfl ?_
  refine r_aload_0 rfl ?_
  refine r_iload_1 rfl ?_
  unfold qDoes
  cases e1 : inF p 0 (m 3 - 1) with
  | false =>
    rw [if_pos rfl]
    refine r_invvX rfl rfl o rfl rfl rfl (by decide) (c_personAtF o q.1 e1) ?_
    exact Or.inr ⟨_, _, rfl, by decide, rfl, rfl⟩
  | true =>
    rw [if_neg (by decide)]
    refine r_invvO rfl rfl o rfl rfl (by decide) (c_personAtT o q.1 e1) ?_
    refine r_iload_2 rfl ?_
    refine r_push rfl ?_
    cases e2 : inF w 0 2 with
    | false =>
      rw [if_pos rfl]
      refine r_invX rfl rfl rfl rfl (by decide) (c_questionF e2) ?_
      exact Or.inr ⟨_, _, rfl, by decide, rfl, rfl⟩
    | true =>
      rw [if_neg (by decide)]
      refine r_invO rfl rfl rfl (by decide) (c_questionT e2) ?_
      rw [v.pp.1] at e1
      obtain ⟨k, hk, rfl⟩ := inF_nI (by have := v.pp.2; omega) e1
      have hk6 : k < 6 := by have := v.pp.2; omega
      rw [nI_clamp (show k < 2 ^ 31 by omega)]
      refine r_iload_2 rfl ?_
      refine r_ifne rfl (fun c_11 => ?_) (fun c_11 => ?_)
      · refine r_iload_2 rfl ?_
        refine r_push rfl ?_
        refine r_icne rfl (fun c_28 => ?_) (fun c_28 => ?_)
        · refine r_aload_0 rfl ?_
          refine r_aload_0 rfl ?_
          refine r_getf rfl (by assumption) (by rfl) ?_
          refine r_iload_1 rfl ?_
          refine r_invvE rfl rfl (by assumption) rfl rfl (by decide) (c_hurtsBy q ge hk) ?_
          rintro v2 h2 ⟨rfl, f2, s2⟩
          refine r_iret rfl ?_
          refine Or.inl ⟨_, _, rfl, rfl, ?_, f2, s2⟩
          first | (rw [if_neg c_11, if_neg c_28]) | (rw [if_neg c_11, if_pos c_28]) | (rw [if_pos c_11])
        · refine r_aload_0 rfl ?_
          refine r_aload_0 rfl ?_
          refine r_getf rfl (by assumption) (by rfl) ?_
          refine r_iload_1 rfl ?_
          refine r_invvE rfl rfl (by assumption) rfl rfl (by decide) (c_earnsBy q ge hk) ?_
          rintro v2 h2 ⟨rfl, f2, s2⟩
          refine r_goto rfl ?_
          refine r_iret rfl ?_
          refine Or.inl ⟨_, _, rfl, rfl, ?_, f2, s2⟩
          first | (rw [if_neg c_11, if_neg c_28]) | (rw [if_neg c_11, if_pos c_28]) | (rw [if_pos c_11])
      · refine r_aload_0 rfl ?_
        refine r_aload_0 rfl ?_
        refine r_getf rfl (by assumption) (by rfl) ?_
        refine r_iload_1 rfl ?_
        refine r_invvE rfl rfl (by assumption) rfl rfl (by decide) (c_tiresBy q ge hk) ?_
        rintro v2 h2 ⟨rfl, f2, s2⟩
        refine r_goto rfl ?_
        refine r_iret rfl ?_
        refine Or.inl ⟨_, _, rfl, rfl, ?_, f2, s2⟩
        first | (rw [if_neg c_11, if_neg c_28]) | (rw [if_neg c_11, if_pos c_28]) | (rw [if_pos c_11])
theorem c_yDoes (q : MZ G bs h y g m) (v : VR m) (lv : LV m) (p w : Int32) : Ev G 33 m_X6_does [.ref y, .int p, .int w] h (fun v h' => v = .int (qDoes m p w).2 ∧ ∃ g', MZ G bs h' y g' m ∧ gK (upd g 0 (nI (qDoes m p w).1)) g' ∧ HF (AP y) 0 0 h h') := by
  have o := q.1.1
  have z1 := q.sg (g' := upd g 0 (nI 1)); have z2 := q.sg (g' := upd g 0 (nI 2)); have z3 := q.sg (g' := upd g 0 (nI 0))
  have o1 := z1.1.1.1; have o2 := z2.1.1.1; have o3 := z3.1.1.1
  refine wc_in mt_X6_does rfl (L := [.ref y, .int p, .int w]) rfl ?_
  unfold qDoes
  cases e1 : inF p 0 (m 3 - 1) with
  | false =>
    rw [if_pos rfl]
    refine r_aload_0 rfl ?_
    refine r_aload_0 rfl ?_
    refine r_iload_1 rfl ?_
    refine r_invvP_1 rfl (o) rfl rfl (by decide) (c_mIsPerson q.1 p) ?_
    refine r_ifneF rfl (by rw [e1]; rfl) ?_
    refine r_push rfl ?_
    refine r_goto rfl ?_
    refine r_puti rfl (o) rfl ?_
    rw [mo_0]
    refine r_aload_0 rfl ?_
    refine r_getf rfl (o1) (by rfl) ?_
    refine r_ifleF rfl (by rw [upd_eq]; decide) ?_
    refine r_push rfl ?_
    refine r_iret rfl ?_
    exact ⟨_, _, rfl, rfl, _, z1.1, gK.refl, z1.2⟩
  | true =>
    rw [if_neg (by decide)]
    cases e2 : inF w 0 2 with
    | false =>
      rw [if_pos rfl]
      refine r_aload_0 rfl ?_
      refine r_aload_0 rfl ?_
      refine r_iload_1 rfl ?_
      refine r_invvP_1 rfl (o) rfl rfl (by decide) (c_mIsPerson q.1 p) ?_
      refine r_ifneT rfl (by rw [e1]; decide) ?_
      refine r_iload_2 rfl ?_
      refine r_push rfl ?_
      refine r_push rfl ?_
      refine r_invP_3 rfl rfl (by decide) (c_isIn _ _ _) ?_
      refine r_ifneF rfl (by rw [e2]; rfl) ?_
      refine r_push rfl ?_
      refine r_goto rfl ?_
      refine r_puti rfl (o) rfl ?_
      rw [mo_0]
      refine r_aload_0 rfl ?_
      refine r_getf rfl (o2) (by rfl) ?_
      refine r_ifleF rfl (by rw [upd_eq]; decide) ?_
      refine r_push rfl ?_
      refine r_iret rfl ?_
      exact ⟨_, _, rfl, rfl, _, z2.1, gK.refl, z2.2⟩
    | true =>
      rw [if_neg (by decide)]
      refine r_aload_0 rfl ?_
      refine r_aload_0 rfl ?_
      refine r_iload_1 rfl ?_
      refine r_invvP_1 rfl (o) rfl rfl (by decide) (c_mIsPerson q.1 p) ?_
      refine r_ifneT rfl (by rw [e1]; decide) ?_
      refine r_iload_2 rfl ?_
      refine r_push rfl ?_
      refine r_push rfl ?_
      refine r_invP_3 rfl rfl (by decide) (c_isIn _ _ _) ?_
      refine r_ifneT rfl (by rw [e2]; decide) ?_
      refine r_push rfl ?_
      refine r_puti rfl (o) rfl ?_
      rw [mo_0]
      refine r_aload_0 rfl ?_
      refine r_getf rfl (o3) (by rfl) ?_
      refine r_ifleT rfl (by rw [upd_eq]; decide) ?_
      rw [v.pp.1] at e1
      obtain ⟨k, hk, rfl⟩ := inF_nI (by have := v.pp.2; omega) e1
      have hk6 : k < 6 := by have := v.pp.2; omega
      rw [nI_clamp (show k < 2 ^ 31 by omega)]
      refine r_aload_0 rfl ?_
      refine r_iload_1 rfl ?_
      refine r_invvF rfl rfl o3 rfl rfl (by decide) (c_mAsks z3.1 v lv hk) ?_
      rintro h2 ⟨g2, q2, k2, e17, e18, e19, f2⟩
      have o4 := q2.1.1
      have o5 := q2.1.2
      have f3 : HF (AP y) 0 0 h h2 := HF.trans z3.2 f2
      have fin : ∀ r, r = (if w = 0 then tiF m k else if w = 1 then eaF m k else huF m k) → Wp G 33 mt_X6_does 93 [.ref y, .int (nI k), .int w] [.int r] h2 (fun R => ∃ v h', R = .inl (some v, h') ∧ v = .int (if w = 0 then tiF m k else if w = 1 then eaF m k else huF m k) ∧ ∃ g', MZ G bs h' y g' m ∧ gK (upd g 0 0) g' ∧ HF (AP y) 0 0 h h') := by
        rintro r rfl
        refine r_iret rfl ?_
        exact ⟨_, _, rfl, rfl, g2, q2, k2, f3⟩
      refine r_iload_2 rfl ?_
      refine r_ifne rfl (fun c => ?_) (fun c => ?_)
      · refine r_iload_2 rfl ?_
        refine r_push rfl ?_
        refine r_icne rfl (fun c1 => ?_) (fun c1 => ?_)
        · refine r_aload_0 rfl ?_
          refine r_getf rfl o4 rfl ?_
          refine r_push rfl ?_
          refine r_iald rfl o5 (show (1 : Int32) = nI 1 from rfl) (by decide) (by decide) ?_
          refine r_push rfl ?_
          refine r_icne rfl (fun c2 => ?_) (fun c2 => ?_)
          · refine r_push rfl ?_
            refine r_aload_0 rfl ?_
            refine r_getf rfl o4 rfl ?_
            rw [e19]
            refine r_invP_2 rfl rfl (by decide) (c_lesser _ _) ?_
            refine fin _ ?_
            rw [if_neg c, if_neg c1]
            unfold huM huF
            rw [if_neg c2, if_neg c2]
          · refine r_aload_0 rfl ?_
            refine r_getf rfl o4 rfl ?_
            rw [e19]
            refine r_goto rfl ?_
            refine fin _ ?_
            have c3 : m 1 = -1 := c2
            rw [if_neg c, if_neg c1]
            unfold huM huF
            rw [if_pos c3, if_pos c3]
        · refine r_aload_0 rfl ?_
          refine r_getf rfl o4 rfl ?_
          rw [e18]
          refine r_goto rfl ?_
          refine fin _ ?_
          rw [if_neg c, if_pos c1]
      · refine r_aload_0 rfl ?_
        refine r_getf rfl o4 rfl ?_
        rw [e17]
        refine r_goto rfl ?_
        refine fin _ ?_
        rw [if_pos c]
theorem c_xLenderHas (w a c : Int32) : Vc G 0 m_X1_lenderHas [.int w, .int a, .int c] h (.int (lhF w a c)) := by
  refine wc_in mt_X1_lenderHas rfl (L := [.int w, .int a, .int c, am_un]) rfl ?_
  refine r_iload_1 rfl ?_
  refine r_ifne rfl (fun c_1 => ?_) (fun c_1 => ?_)
  · refine r_iload_0 rfl ?_
    refine r_push rfl ?_
    refine r_idiv rfl (by decide) ?_
    refine r_istore_3 rfl ?_
    refine r_iload_2 rfl ?_
    refine r_push rfl ?_
    refine r_icne rfl (fun c_14 => ?_) (fun c_14 => ?_)
    · refine r_iload_3 rfl ?_
      refine r_iret rfl ?_
      unfold lhF haF
      first | rw [if_neg c_1, if_neg c_14] | rw [if_neg c_1, if_pos c_14] | rw [if_pos c_1, if_neg c_14] | rw [if_pos c_1, if_pos c_14]
    · refine r_iload_3 rfl ?_
      refine r_ineg rfl ?_
      refine r_goto rfl ?_
      refine r_iret rfl ?_
      unfold lhF haF
      first | rw [if_neg c_1, if_neg c_14] | rw [if_neg c_1, if_pos c_14] | rw [if_pos c_1, if_neg c_14] | rw [if_pos c_1, if_pos c_14]
  · refine r_iload_0 rfl ?_
    refine r_goto rfl ?_
    refine r_istore_3 rfl ?_
    refine r_iload_2 rfl ?_
    refine r_push rfl ?_
    refine r_icne rfl (fun c_14 => ?_) (fun c_14 => ?_)
    · refine r_iload_3 rfl ?_
      refine r_iret rfl ?_
      unfold lhF haF
      first | rw [if_neg c_1, if_neg c_14] | rw [if_neg c_1, if_pos c_14] | rw [if_pos c_1, if_neg c_14] | rw [if_pos c_1, if_pos c_14]
    · refine r_iload_3 rfl ?_
      refine r_ineg rfl ?_
      refine r_goto rfl ?_
      refine r_iret rfl ?_
      unfold lhF haF
      first | rw [if_neg c_1, if_neg c_14] | rw [if_neg c_1, if_pos c_14] | rw [if_pos c_1, if_neg c_14] | rw [if_pos c_1, if_pos c_14]
theorem c_yLenderHas (w a : Int32) {k : Nat} (hk : k < 2) : Vc G 0 m_X6_lenderHas [.int w, .int a, .int (nI k)] h (.int (lhF w a (nI k))) := by
  refine wc_in mt_X6_lenderHas rfl (L := [.int w, .int a, .int (nI k), am_un]) rfl ?_
  rcases (show k = 0 ∨ k = 1 by omega) with rfl | rfl
  · refine r_iload_1 rfl ?_
    refine r_ifne rfl (fun c_1 => ?_) (fun c_1 => ?_)
    · refine r_iload_0 rfl ?_
      refine r_push rfl ?_
      refine r_idiv rfl (by decide) ?_
      refine r_istore_3 rfl ?_
      refine r_iload_2 rfl ?_
      refine r_ifneF rfl (rfl) ?_
      refine r_iload_3 rfl ?_
      refine r_goto rfl ?_
      refine r_iret rfl ?_
      unfold lhF haF
      first | (rw [if_neg c_1]; rfl) | (rw [if_pos c_1]; rfl)
    · refine r_iload_0 rfl ?_
      refine r_goto rfl ?_
      refine r_istore_3 rfl ?_
      refine r_iload_2 rfl ?_
      refine r_ifneF rfl (rfl) ?_
      refine r_iload_3 rfl ?_
      refine r_goto rfl ?_
      refine r_iret rfl ?_
      unfold lhF haF
      first | (rw [if_neg c_1]; rfl) | (rw [if_pos c_1]; rfl)
  · refine r_iload_1 rfl ?_
    refine r_ifne rfl (fun c_1 => ?_) (fun c_1 => ?_)
    · refine r_iload_0 rfl ?_
      refine r_push rfl ?_
      refine r_idiv rfl (by decide) ?_
      refine r_istore_3 rfl ?_
      refine r_iload_2 rfl ?_
      refine r_ifneT rfl (by decide) ?_
      refine r_iload_3 rfl ?_
      refine r_ineg rfl ?_
      refine r_iret rfl ?_
      unfold lhF haF
      first | (rw [if_neg c_1]; rfl) | (rw [if_pos c_1]; rfl)
    · refine r_iload_0 rfl ?_
      refine r_goto rfl ?_
      refine r_istore_3 rfl ?_
      refine r_iload_2 rfl ?_
      refine r_ifneT rfl (by decide) ?_
      refine r_iload_3 rfl ?_
      refine r_ineg rfl ?_
      refine r_iret rfl ?_
      unfold lhF haF
      first | (rw [if_neg c_1]; rfl) | (rw [if_pos c_1]; rfl)
theorem c_xDebtorHas (o : h.1 x = some (.inr (0, xobj x hi))) (q : WA h (x + 1) m b l) (v : VR m) (yb : BY b m) {p : Nat} (hp : p < nP m) (w a c : Int32) : Vc G 3 m_X1_debtorHas [.ref x, .int (nI p), .int w, .int a, .int c] h (.int (dhF m p w a c)) := by
  have o1 := wa_o q; have o2 := wa_ba q
  have hp6 : p < 6 := by have := v.pp.2; omega
  refine wc_in mt_X1_debtorHas rfl (L := [.ref x, .int (nI p), .int w, .int a, .int c]) rfl ?_
  refine r_iload_4 rfl ?_
  refine r_push rfl ?_
  refine r_icne rfl (fun c_3 => ?_) (fun c_3 => ?_)
  · refine r_aload_0 rfl ?_
    refine r_getf rfl (by assumption) (by rfl) ?_
    refine r_getf rfl (by assumption) (by rfl) ?_
    refine r_iload_1 rfl ?_
    refine r_iald rfl (by assumption) (by rfl) (by first | assumption | omega) (by first | decide | omega) ?_
    refine r_aload_0 rfl ?_
    refine r_getf rfl (by assumption) (by rfl) ?_
    refine r_iload_1 rfl ?_
    refine r_invvP_1 rfl (by assumption) rfl rfl (by decide) (c_load q v yb _) ?_
    refine r_isub rfl ?_
    refine r_iload_3 rfl ?_
    refine r_ifne rfl (fun c_30 => ?_) (fun c_30 => ?_)
    · refine r_iload_2 rfl ?_
      refine r_push rfl ?_
      refine r_idiv rfl (by decide) ?_
      refine r_isub rfl ?_
      refine r_iret rfl ?_
      unfold dhF haF
      first | rw [if_pos c_3] | (rw [if_neg c_3, if_pos c_30, cl_in hp6]) | (rw [if_neg c_3, if_neg c_30, cl_in hp6])
    · refine r_iload_2 rfl ?_
      refine r_goto rfl ?_
      refine r_isub rfl ?_
      refine r_iret rfl ?_
      unfold dhF haF
      first | rw [if_pos c_3] | (rw [if_neg c_3, if_pos c_30, cl_in hp6]) | (rw [if_neg c_3, if_neg c_30, cl_in hp6])
  · refine r_push rfl ?_
    refine r_goto rfl ?_
    refine r_iret rfl ?_
    unfold dhF haF
    first | rw [if_pos c_3] | (rw [if_neg c_3, if_pos c_30, cl_in hp6]) | (rw [if_neg c_3, if_neg c_30, cl_in hp6])
theorem c_yDebtorHas (q : MM h y g m) (v : VR m) {p : Nat} (hp : p < nP m) (w a c : Int32) : Vc G 3 m_X6_debtorHas [.ref y, .int (nI p), .int w, .int a, .int c] h (.int (dhF m p w a c)) := by
  have o := q.1
  have hp6 : p < 6 := by have := v.pp.2; omega
  refine wc_in mt_X6_debtorHas rfl (L := [.ref y, .int (nI p), .int w, .int a, .int c]) rfl ?_
  refine r_iload_4 rfl ?_
  refine r_push rfl ?_
  refine r_icne rfl (fun c_3 => ?_) (fun c_3 => ?_)
  · refine r_aload_0 rfl ?_
    refine r_iload_1 rfl ?_
    refine r_push rfl ?_
    refine r_invvP_2 rfl (by assumption) rfl rfl (by decide) (c_of1 q (by omega)) ?_
    refine r_aload_0 rfl ?_
    refine r_iload_1 rfl ?_
    refine r_invvP_1 rfl (by assumption) rfl rfl (by decide) (c_mload q v _) ?_
    refine r_isub rfl ?_
    refine r_iload_3 rfl ?_
    refine r_ifne rfl (fun c_24 => ?_) (fun c_24 => ?_)
    · refine r_iload_2 rfl ?_
      refine r_push rfl ?_
      refine r_idiv rfl (by decide) ?_
      refine r_isub rfl ?_
      refine r_iret rfl ?_
      unfold dhF haF
      first | rw [if_pos c_3] | (rw [if_neg c_3, if_pos c_24]) | (rw [if_neg c_3, if_neg c_24])
    · refine r_iload_2 rfl ?_
      refine r_goto rfl ?_
      refine r_isub rfl ?_
      refine r_iret rfl ?_
      unfold dhF haF
      first | rw [if_pos c_3] | (rw [if_neg c_3, if_pos c_24]) | (rw [if_neg c_3, if_neg c_24])
  · refine r_push rfl ?_
    refine r_goto rfl ?_
    refine r_iret rfl ?_
    unfold dhF haF
    first | rw [if_pos c_3] | (rw [if_neg c_3, if_pos c_24]) | (rw [if_neg c_3, if_neg c_24])
end
