/-! WHAT IS ASKED: rests, count on both sides -/
set_option maxRecDepth 100000
theorem bsF_f0 {c : Nat → Bool} {k : Nat} (h : c k = false) : bsF c (k + 1) = bsF c k := by rw [bsF_f h, Int32.or_zero]
/-- lines of the law, as the row tells -/
def LC (m : Nat → Int32) : Prop := m 1 ≠ -1 → m 1 = nI (lwF m).length
def cntV (m : Nat → Int32) (n k : Nat) : Int32 := if k = 0 then m 3 else if k = 1 then m 4 else if k = 2 then m 0 else if k = 3 then m 1 else if k = 4 then m 5 else if k = 5 then m 6 else if k = 6 then pursesF m else if k = 7 then stateF m 0 else if k = 8 then stateF m 1 else if k = 9 then stateF m 2 else if k = 10 then upwF m else if k = 11 then hurtF m else if k = 12 then m 7 else nI n
def cntF (m : Nat → Int32) (n : Nat) (w : Int32) : Int32 := if inF w 0 13 = false then -1 else cntV m n w.toNatClampNeg
section
variable {G : am_G} {bs : Nat} {S : Nat → Prop} {h : am_H} {x y : Nat} {hi : Bool} {m b g : Nat → Int32} {l : Value}
theorem c_xRests (o : h.1 x = some (.inr (0, xobj x hi))) (q : WA h (x + 1) m b l) (v : VR m) (yb : BY b m) (c d w : Int32) : Qt G 4 m_X1_rests [.ref x, .int c, .int d, .int w] h (qRests m c d w) (k2 20 18) := by
  refine wc_in mt_X1_rests rfl (L := [.ref x, .int c, .int d, .int w, am_un, am_un, am_un]) rfl ?_
  refine r_aload_0 rfl ?_
  refine r_iload_1 rfl ?_
  unfold qRests
  cases e1 : inF c 0 (m 3 - 1) with
  | false =>
    rw [if_pos rfl]
    refine r_invvX rfl rfl o rfl rfl rfl (by decide) (c_personAtF o q e1) ?_
    exact Or.inr ⟨_, _, rfl, by decide, rfl, rfl⟩
  | true =>
    rw [if_neg (by decide)]
    refine r_invvO rfl rfl o rfl rfl (by decide) (c_personAtT o q e1) ?_
    refine r_aload_0 rfl ?_
    refine r_iload_2 rfl ?_
    cases e2 : inF d 0 (m 3 - 1) with
    | false =>
      rw [if_pos rfl]
      refine r_invvX rfl rfl o rfl rfl rfl (by decide) (c_personAtF o q e2) ?_
      exact Or.inr ⟨_, _, rfl, by decide, rfl, rfl⟩
    | true =>
      rw [if_neg (by decide)]
      refine r_invvO rfl rfl o rfl rfl (by decide) (c_personAtT o q e2) ?_
      rw [v.pp.1] at e2
      obtain ⟨k, hk, rfl⟩ := inF_nI (by have := v.pp.2; omega) e2
      have hk6 : k < 6 := by have := v.pp.2; omega
      rw [nI_clamp (show k < 2 ^ 31 by omega)]
      by_cases e3 : c = nI k ∨ inF w 1 40 = false
      · rw [if_pos e3]
        rcases e3 with e3 | e3
        · refine r_iload_1 rfl ?_
          refine r_iload_2 rfl ?_
          refine r_iceqT rfl (e3) ?_
          refine r_push rfl ?_
          refine r_invX rfl rfl rfl rfl (by decide) (c_demandF rfl) ?_
          exact Or.inr ⟨_, _, rfl, by decide, rfl, rfl⟩
        · refine r_iload_1 rfl ?_
          refine r_iload_2 rfl ?_
          refine r_iceq rfl (fun c1 => ?_) (fun c1 => ?_)
          · refine r_push rfl ?_
            refine r_invX rfl rfl rfl rfl (by decide) (c_demandF rfl) ?_
            exact Or.inr ⟨_, _, rfl, by decide, rfl, rfl⟩
          · refine r_iload_3 rfl ?_
            refine r_push rfl ?_
            refine r_push rfl ?_
            refine r_invP_3 rfl rfl (by decide) (c_in _ _ _) ?_
            refine r_ifeqT rfl (by rw [e3]; rfl) ?_
            refine r_push rfl ?_
            refine r_invX rfl rfl rfl rfl (by decide) (c_demandF rfl) ?_
            exact Or.inr ⟨_, _, rfl, by decide, rfl, rfl⟩
      · rw [if_neg e3]
        have e4 : c ≠ nI k := fun z => e3 (Or.inl z)
        have e5 : inF w 1 40 = true := by
          cases e : inF w 1 40 with
          | true => rfl
          | false => exact absurd (Or.inr e) e3
        refine r_iload_1 rfl ?_
        refine r_iload_2 rfl ?_
        refine r_iceqF rfl (e4) ?_
        refine r_iload_3 rfl ?_
        refine r_push rfl ?_
        refine r_push rfl ?_
        refine r_invP_3 rfl rfl (by decide) (c_in _ _ _) ?_
        refine r_ifeqF rfl (by rw [e5]; decide) ?_
        refine r_push rfl ?_
        refine r_goto rfl ?_
        refine r_invO rfl rfl rfl (by decide) (c_demandT (by decide)) ?_
        refine r_push rfl ?_
        refine r_istore_4 rfl ?_
        refine r_push rfl ?_
        refine r_istore_5 rfl ?_
        refine wp_forH 2 (fun a L h' => h' = h ∧ ∃ x6, L = [.ref x, .int c, .int (nI k), .int w, .int (bsF (reC m k w) (2 * a)), .int (nI a), x6]) (fun a L h' ha hI kont => ?_) (fun L h' hI => ?_) _ _ ⟨rfl, am_un, rfl⟩
        · obtain ⟨rfl, x6, rfl⟩ := hI
          refine r_iload_5 rfl ?_
          refine r_push rfl ?_
          refine r_icgeF rfl (nI_lt ha (by decide)) ?_
          refine r_push rfl ?_
          refine r_istore_6 rfl ?_
          refine wp_for 2 (fun j => [.ref x, .int c, .int (nI k), .int w, .int (bsF (reC m k w) (2 * a + j)), .int (nI a), .int (nI j)]) (fun j hj k3 => ?_) ?_
          · have er : reC m k w (2 * a + j) = (decide (lhF w (1 - nI a) (nI j) ≤ lhF w (nI a) (nI j)) && decide (dhF m k w (nI a) (1 - nI j) ≤ dhF m k w (nI a) (nI j))) := by
              unfold reC
              rw [show (2 * a + j) / 2 = a by omega, show (2 * a + j) % 2 = j by omega]
            have esh : (2 : Int32) * nI a + nI j = nI (2 * a + j) := by rw [show (2 : Int32) = nI 2 from rfl, nI_mul, nI_add]
            rw [show 2 * a + (j + 1) = 2 * a + j + 1 by omega] at k3
            by_cases A : lhF w (1 - nI a) (nI j) ≤ lhF w (nI a) (nI j)
            · by_cases B : dhF m k w (nI a) (1 - nI j) ≤ dhF m k w (nI a) (nI j)
              · rw [decide_eq_true A, decide_eq_true B, Bool.and_self] at er
                rw [bsF_t er] at k3
                refine r_iload_6 rfl ?_
                refine r_push rfl ?_
                refine r_icgeF rfl (nI_lt hj (by decide)) ?_
                refine r_iload_3 rfl ?_
                refine r_iload_5 rfl ?_
                refine r_iload_6 rfl ?_
                refine r_invP_3 rfl rfl (by decide) (c_xLenderHas _ _ _) ?_
                refine r_iload_3 rfl ?_
                refine r_push rfl ?_
                refine r_iload_5 rfl ?_
                refine r_isub rfl ?_
                refine r_iload_6 rfl ?_
                refine r_invP_3 rfl rfl (by decide) (c_xLenderHas _ _ _) ?_
                refine r_icltF rfl (A) ?_
                refine r_aload_0 rfl ?_
                refine r_iload_2 rfl ?_
                refine r_iload_3 rfl ?_
                refine r_iload_5 rfl ?_
                refine r_iload_6 rfl ?_
                refine r_invvP_4 rfl (by assumption) rfl rfl (by decide) (c_xDebtorHas o q v yb hk _ _ _) ?_
                refine r_aload_0 rfl ?_
                refine r_iload_2 rfl ?_
                refine r_iload_3 rfl ?_
                refine r_iload_5 rfl ?_
                refine r_push rfl ?_
                refine r_iload_6 rfl ?_
                refine r_isub rfl ?_
                refine r_invvP_4 rfl (by assumption) rfl rfl (by decide) (c_xDebtorHas o q v yb hk _ _ _) ?_
                refine r_icltF rfl (B) ?_
                refine r_iload_4 rfl ?_
                refine r_push rfl ?_
                refine r_push rfl ?_
                refine r_iload_5 rfl ?_
                refine r_imul rfl ?_
                refine r_iload_6 rfl ?_
                refine r_iadd rfl ?_
                refine r_ishl rfl ?_
                refine r_ior rfl ?_
                refine r_istore_4 rfl ?_
                refine r_iinc_6 rfl ?_
                refine r_goto rfl ?_
                rw [nI_1, esh]
                exact k3
              · rw [decide_eq_false B, Bool.and_false] at er
                rw [bsF_f0 er] at k3
                refine r_iload_6 rfl ?_
                refine r_push rfl ?_
                refine r_icgeF rfl (nI_lt hj (by decide)) ?_
                refine r_iload_3 rfl ?_
                refine r_iload_5 rfl ?_
                refine r_iload_6 rfl ?_
                refine r_invP_3 rfl rfl (by decide) (c_xLenderHas _ _ _) ?_
                refine r_iload_3 rfl ?_
                refine r_push rfl ?_
                refine r_iload_5 rfl ?_
                refine r_isub rfl ?_
                refine r_iload_6 rfl ?_
                refine r_invP_3 rfl rfl (by decide) (c_xLenderHas _ _ _) ?_
                refine r_icltF rfl (A) ?_
                refine r_aload_0 rfl ?_
                refine r_iload_2 rfl ?_
                refine r_iload_3 rfl ?_
                refine r_iload_5 rfl ?_
                refine r_iload_6 rfl ?_
                refine r_invvP_4 rfl (by assumption) rfl rfl (by decide) (c_xDebtorHas o q v yb hk _ _ _) ?_
                refine r_aload_0 rfl ?_
                refine r_iload_2 rfl ?_
                refine r_iload_3 rfl ?_
                refine r_iload_5 rfl ?_
                refine r_push rfl ?_
                refine r_iload_6 rfl ?_
                refine r_isub rfl ?_
                refine r_invvP_4 rfl (by assumption) rfl rfl (by decide) (c_xDebtorHas o q v yb hk _ _ _) ?_
                refine r_icltT rfl (Int32.not_le.mp B) ?_
                refine r_iinc_6 rfl ?_
                refine r_goto rfl ?_
                rw [nI_1]
                exact k3
            · rw [decide_eq_false A, Bool.false_and] at er
              rw [bsF_f0 er] at k3
              refine r_iload_6 rfl ?_
              refine r_push rfl ?_
              refine r_icgeF rfl (nI_lt hj (by decide)) ?_
              refine r_iload_3 rfl ?_
              refine r_iload_5 rfl ?_
              refine r_iload_6 rfl ?_
              refine r_invP_3 rfl rfl (by decide) (c_xLenderHas _ _ _) ?_
              refine r_iload_3 rfl ?_
              refine r_push rfl ?_
              refine r_iload_5 rfl ?_
              refine r_isub rfl ?_
              refine r_iload_6 rfl ?_
              refine r_invP_3 rfl rfl (by decide) (c_xLenderHas _ _ _) ?_
              refine r_icltT rfl (Int32.not_le.mp A) ?_
              refine r_iinc_6 rfl ?_
              refine r_goto rfl ?_
              rw [nI_1]
              exact k3
          · refine r_iload_6 rfl ?_
            refine r_push rfl ?_
            refine r_icgeT rfl (by decide) ?_
            refine r_iinc_5 rfl ?_
            refine r_goto rfl ?_
            rw [nI_1]
            exact kont _ _ ⟨rfl, _, rfl⟩
        · obtain ⟨rfl, x6, rfl⟩ := hI
          refine r_iload_5 rfl ?_
          refine r_push rfl ?_
          refine r_icgeT rfl (by decide) ?_
          refine r_iload_4 rfl ?_
          refine r_iret rfl ?_
          exact Or.inl ⟨_, _, rfl, rfl, rfl, rfl⟩
theorem rem2 : ∀ k, k < 4 → nI k - nI k / 2 * 2 = nI (k % 2) ∧ nI k / 2 = nI (k / 2) := by decide +kernel
theorem c_yRests (q : MM h y g m) (v : VR m) (c d w : Int32) : Yc G 4 m_X6_rests [.ref y, .int c, .int d, .int w] h y g (qRests m c d w) := by
  have o := q.1
  have m1 := q.thr (nI 1); have m2 := q.thr (nI 2); have m3 := q.thr (nI 0)
  have o1 := m1.1; have o2 := m2.1; have o3 := m3.1
  refine wc_in mt_X6_rests rfl (L := [.ref y, .int c, .int d, .int w, am_un, am_un, am_un, am_un]) rfl ?_
  unfold qRests
  cases e1 : inF c 0 (m 3 - 1) with
  | false =>
    rw [if_pos rfl]
    refine r_aload_0 rfl ?_
    refine r_aload_0 rfl ?_
    refine r_iload_1 rfl ?_
    refine r_invvP_1 rfl (o) rfl rfl (by decide) (c_mIsPerson q c) ?_
    refine r_ifeqT rfl (by rw [e1]; rfl) ?_
    refine r_push rfl ?_
    refine r_goto rfl ?_
    refine r_puti rfl (o) rfl ?_
    rw [mo_0]
    refine r_aload_0 rfl ?_
    refine r_getf rfl (o1) (by rfl) ?_
    refine r_ifleF rfl (by rw [upd_eq]; decide) ?_
    refine r_push rfl ?_
    refine r_iret rfl ?_
    rfl
  | true =>
    rw [if_neg (by decide)]
    cases e2 : inF d 0 (m 3 - 1) with
    | false =>
      rw [if_pos rfl]
      refine r_aload_0 rfl ?_
      refine r_aload_0 rfl ?_
      refine r_iload_1 rfl ?_
      refine r_invvP_1 rfl (o) rfl rfl (by decide) (c_mIsPerson q c) ?_
      refine r_ifeqF rfl (by rw [e1]; decide) ?_
      refine r_aload_0 rfl ?_
      refine r_iload_2 rfl ?_
      refine r_invvP_1 rfl (o) rfl rfl (by decide) (c_mIsPerson q d) ?_
      refine r_ifneF rfl (by rw [e2]; rfl) ?_
      refine r_push rfl ?_
      refine r_goto rfl ?_
      refine r_puti rfl (o) rfl ?_
      rw [mo_0]
      refine r_aload_0 rfl ?_
      refine r_getf rfl (o1) (by rfl) ?_
      refine r_ifleF rfl (by rw [upd_eq]; decide) ?_
      refine r_push rfl ?_
      refine r_iret rfl ?_
      rfl
    | true =>
      rw [if_neg (by decide)]
      have e6 := e2
      rw [v.pp.1] at e6
      obtain ⟨k, hk, rfl⟩ := inF_nI (by have := v.pp.2; omega) e6
      have hk6 : k < 6 := by have := v.pp.2; omega
      rw [nI_clamp (show k < 2 ^ 31 by omega)]
      by_cases e3 : c = nI k ∨ inF w 1 40 = false
      · rw [if_pos e3]
        rcases e3 with e3 | e3
        · refine r_aload_0 rfl ?_
          refine r_aload_0 rfl ?_
          refine r_iload_1 rfl ?_
          refine r_invvP_1 rfl (o) rfl rfl (by decide) (c_mIsPerson q c) ?_
          refine r_ifeqF rfl (by rw [e1]; decide) ?_
          refine r_aload_0 rfl ?_
          refine r_iload_2 rfl ?_
          refine r_invvP_1 rfl (o) rfl rfl (by decide) (c_mIsPerson q _) ?_
          refine r_ifneT rfl (by rw [e2]; decide) ?_
          refine r_iload_1 rfl ?_
          refine r_iload_2 rfl ?_
          refine r_iceqT rfl (e3) ?_
          refine r_push rfl ?_
          refine r_goto rfl ?_
          refine r_puti rfl (o) rfl ?_
          rw [mo_0]
          refine r_aload_0 rfl ?_
          refine r_getf rfl (o2) (by rfl) ?_
          refine r_ifleF rfl (by rw [upd_eq]; decide) ?_
          refine r_push rfl ?_
          refine r_iret rfl ?_
          rfl
        · refine r_aload_0 rfl ?_
          refine r_aload_0 rfl ?_
          refine r_iload_1 rfl ?_
          refine r_invvP_1 rfl (o) rfl rfl (by decide) (c_mIsPerson q c) ?_
          refine r_ifeqF rfl (by rw [e1]; decide) ?_
          refine r_aload_0 rfl ?_
          refine r_iload_2 rfl ?_
          refine r_invvP_1 rfl (o) rfl rfl (by decide) (c_mIsPerson q _) ?_
          refine r_ifneT rfl (by rw [e2]; decide) ?_
          refine r_iload_1 rfl ?_
          refine r_iload_2 rfl ?_
          refine r_iceq rfl (fun c_23 => ?_) (fun c_23 => ?_)
          · refine r_push rfl ?_
            refine r_goto rfl ?_
            refine r_puti rfl (o) rfl ?_
            rw [mo_0]
            refine r_aload_0 rfl ?_
            refine r_getf rfl (o2) (by rfl) ?_
            refine r_ifleF rfl (by rw [upd_eq]; decide) ?_
            refine r_push rfl ?_
            refine r_iret rfl ?_
            rfl
          · refine r_iload_3 rfl ?_
            refine r_push rfl ?_
            refine r_push rfl ?_
            refine r_invP_3 rfl rfl (by decide) (c_isIn _ _ _) ?_
            refine r_ifneF rfl (by rw [e3]; rfl) ?_
            refine r_push rfl ?_
            refine r_goto rfl ?_
            refine r_puti rfl (o) rfl ?_
            rw [mo_0]
            refine r_aload_0 rfl ?_
            refine r_getf rfl (o2) (by rfl) ?_
            refine r_ifleF rfl (by rw [upd_eq]; decide) ?_
            refine r_push rfl ?_
            refine r_iret rfl ?_
            rfl
      · rw [if_neg e3]
        have e4 : c ≠ nI k := fun z => e3 (Or.inl z)
        have e5 : inF w 1 40 = true := by
          cases e : inF w 1 40 with
          | true => rfl
          | false => exact absurd (Or.inr e) e3
        refine r_aload_0 rfl ?_
        refine r_aload_0 rfl ?_
        refine r_iload_1 rfl ?_
        refine r_invvP_1 rfl (o) rfl rfl (by decide) (c_mIsPerson q c) ?_
        refine r_ifeqF rfl (by rw [e1]; decide) ?_
        refine r_aload_0 rfl ?_
        refine r_iload_2 rfl ?_
        refine r_invvP_1 rfl (o) rfl rfl (by decide) (c_mIsPerson q _) ?_
        refine r_ifneT rfl (by rw [e2]; decide) ?_
        refine r_iload_1 rfl ?_
        refine r_iload_2 rfl ?_
        refine r_iceqF rfl (e4) ?_
        refine r_iload_3 rfl ?_
        refine r_push rfl ?_
        refine r_push rfl ?_
        refine r_invP_3 rfl rfl (by decide) (c_isIn _ _ _) ?_
        refine r_ifneT rfl (by rw [e5]; decide) ?_
        refine r_push rfl ?_
        refine r_puti rfl (o) rfl ?_
        rw [mo_0]
        refine r_aload_0 rfl ?_
        refine r_getf rfl (o3) (by rfl) ?_
        refine r_ifleT rfl (by rw [upd_eq]; decide) ?_
        refine r_push rfl ?_
        refine r_istore_4 rfl ?_
        refine r_push rfl ?_
        refine r_istore_5 rfl ?_
        refine wp_forH 4 (fun j L h' => h' = mh h y (upd g 0 (nI 0)) ∧ ∃ x6 x7, L = [.ref y, .int c, .int (nI k), .int w, .int (bsF (reC m k w) j), .int (nI j), x6, x7]) (fun j L h' hj hI kont => ?_) (fun L h' hI => ?_) _ _ ⟨rfl, am_un, am_un, rfl⟩
        · obtain ⟨rfl, x6, x7, rfl⟩ := hI
          obtain ⟨r2, d2⟩ := rem2 j hj
          have er : reC m k w j = (decide (lhF w (1 - nI (j / 2)) (nI (j % 2)) ≤ lhF w (nI (j / 2)) (nI (j % 2))) && decide (dhF m k w (nI (j / 2)) (1 - nI (j % 2)) ≤ dhF m k w (nI (j / 2)) (nI (j % 2)))) := rfl
          generalize hu : nI (j / 2) = u at *
          generalize hv : nI (j % 2) = t at *
          have cl1 : ∀ a, Vc G 0 m_X6_lenderHas [.int w, .int a, .int t] (mh h y (upd g 0 (nI 0))) (.int (lhF w a t)) := fun a => by rw [← hv]; exact c_yLenderHas _ _ (Nat.mod_lt _ (by decide))
          by_cases A : lhF w (1 - u) t ≤ lhF w u t
          · by_cases B : dhF m k w u (1 - t) ≤ dhF m k w u t
            · rw [decide_eq_true A, decide_eq_true B, Bool.and_self] at er
              rw [bsF_t er] at kont
              refine r_iload_5 rfl ?_
              refine r_push rfl ?_
              refine r_icgeF rfl (nI_lt hj (by decide)) ?_
              refine r_iload_5 rfl ?_
              refine r_push rfl ?_
              refine r_idiv rfl (by decide) ?_
              rw [d2]
              refine r_istore_6 rfl ?_
              refine r_iload_5 rfl ?_
              refine r_push rfl ?_
              refine r_irem rfl (by decide) ?_
              rw [r2]
              refine r_istore_7 rfl ?_
              refine r_iload_3 rfl ?_
              refine r_push rfl ?_
              refine r_iload_6 rfl ?_
              refine r_isub rfl ?_
              refine r_iload_7 rfl ?_
              refine r_invP_3 rfl rfl (by decide) (cl1 _) ?_
              refine r_iload_3 rfl ?_
              refine r_iload_6 rfl ?_
              refine r_iload_7 rfl ?_
              refine r_invP_3 rfl rfl (by decide) (cl1 _) ?_
              refine r_icgtF rfl (A) ?_
              refine r_aload_0 rfl ?_
              refine r_iload_2 rfl ?_
              refine r_iload_3 rfl ?_
              refine r_iload_6 rfl ?_
              refine r_push rfl ?_
              refine r_iload_7 rfl ?_
              refine r_isub rfl ?_
              refine r_invvP_4 rfl (o3) rfl rfl (by decide) (c_yDebtorHas m3 v hk _ _ _) ?_
              refine r_aload_0 rfl ?_
              refine r_iload_2 rfl ?_
              refine r_iload_3 rfl ?_
              refine r_iload_6 rfl ?_
              refine r_iload_7 rfl ?_
              refine r_invvP_4 rfl (o3) rfl rfl (by decide) (c_yDebtorHas m3 v hk _ _ _) ?_
              refine r_icgtF rfl (B) ?_
              refine r_iload_4 rfl ?_
              refine r_push rfl ?_
              refine r_iload_5 rfl ?_
              refine r_ishl rfl ?_
              refine r_ior rfl ?_
              refine r_istore_4 rfl ?_
              refine r_iinc_5 rfl ?_
              refine r_goto rfl ?_
              rw [nI_1]
              exact kont _ _ ⟨rfl, _, _, rfl⟩
            · rw [decide_eq_false B, Bool.and_false] at er
              rw [bsF_f0 er] at kont
              refine r_iload_5 rfl ?_
              refine r_push rfl ?_
              refine r_icgeF rfl (nI_lt hj (by decide)) ?_
              refine r_iload_5 rfl ?_
              refine r_push rfl ?_
              refine r_idiv rfl (by decide) ?_
              rw [d2]
              refine r_istore_6 rfl ?_
              refine r_iload_5 rfl ?_
              refine r_push rfl ?_
              refine r_irem rfl (by decide) ?_
              rw [r2]
              refine r_istore_7 rfl ?_
              refine r_iload_3 rfl ?_
              refine r_push rfl ?_
              refine r_iload_6 rfl ?_
              refine r_isub rfl ?_
              refine r_iload_7 rfl ?_
              refine r_invP_3 rfl rfl (by decide) (cl1 _) ?_
              refine r_iload_3 rfl ?_
              refine r_iload_6 rfl ?_
              refine r_iload_7 rfl ?_
              refine r_invP_3 rfl rfl (by decide) (cl1 _) ?_
              refine r_icgtF rfl (A) ?_
              refine r_aload_0 rfl ?_
              refine r_iload_2 rfl ?_
              refine r_iload_3 rfl ?_
              refine r_iload_6 rfl ?_
              refine r_push rfl ?_
              refine r_iload_7 rfl ?_
              refine r_isub rfl ?_
              refine r_invvP_4 rfl (o3) rfl rfl (by decide) (c_yDebtorHas m3 v hk _ _ _) ?_
              refine r_aload_0 rfl ?_
              refine r_iload_2 rfl ?_
              refine r_iload_3 rfl ?_
              refine r_iload_6 rfl ?_
              refine r_iload_7 rfl ?_
              refine r_invvP_4 rfl (o3) rfl rfl (by decide) (c_yDebtorHas m3 v hk _ _ _) ?_
              refine r_icgtT rfl (Int32.not_le.mp B) ?_
              refine r_iinc_5 rfl ?_
              refine r_goto rfl ?_
              rw [nI_1]
              exact kont _ _ ⟨rfl, _, _, rfl⟩
          · rw [decide_eq_false A, Bool.false_and] at er
            rw [bsF_f0 er] at kont
            refine r_iload_5 rfl ?_
            refine r_push rfl ?_
            refine r_icgeF rfl (nI_lt hj (by decide)) ?_
            refine r_iload_5 rfl ?_
            refine r_push rfl ?_
            refine r_idiv rfl (by decide) ?_
            rw [d2]
            refine r_istore_6 rfl ?_
            refine r_iload_5 rfl ?_
            refine r_push rfl ?_
            refine r_irem rfl (by decide) ?_
            rw [r2]
            refine r_istore_7 rfl ?_
            refine r_iload_3 rfl ?_
            refine r_push rfl ?_
            refine r_iload_6 rfl ?_
            refine r_isub rfl ?_
            refine r_iload_7 rfl ?_
            refine r_invP_3 rfl rfl (by decide) (cl1 _) ?_
            refine r_iload_3 rfl ?_
            refine r_iload_6 rfl ?_
            refine r_iload_7 rfl ?_
            refine r_invP_3 rfl rfl (by decide) (cl1 _) ?_
            refine r_icgtT rfl (Int32.not_le.mp A) ?_
            refine r_iinc_5 rfl ?_
            refine r_goto rfl ?_
            rw [nI_1]
            exact kont _ _ ⟨rfl, _, _, rfl⟩
        · obtain ⟨rfl, x6, x7, rfl⟩ := hI
          refine r_iload_5 rfl ?_
          refine r_push rfl ?_
          refine r_icgeT rfl (by decide) ?_
          refine r_iload_4 rfl ?_
          refine r_iret rfl ?_
          rfl
end
