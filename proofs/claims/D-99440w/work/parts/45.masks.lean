/-! THE MODEL: what the law says of a person -/
set_option maxRecDepth 100000
/-- a text of the law that can be read -/
def LV (m : Nat → Int32) : Prop := m 1 = -1 ∨ (m 1 ≠ -1 ∧ ∃ e, m 2 = nI e ∧ e ≤ 400 ∧ lawF (txF m) e = .inr (lwF m, e))
theorem LV.kr {m m' : Nat → Int32} (q : LV m) (k : KR m m') : LV m' := by
  obtain ⟨⟨k1, k2, k3⟩, -⟩ := k
  have et : txF m' = txF m := by funext i; exact k3 _ (by omega)
  have el : lwF m' = lwF m := lwF_congr k2 k3
  rcases q with q | ⟨q1, e, q2, q3, q4⟩
  · exact Or.inl (k1.trans q)
  · exact Or.inr ⟨by rw [k1]; exact q1, e, k2.trans q2, q3, by rw [et, el]; exact q4⟩
/-- the model at y: its numbers g, its row m; its other cells that asking uses -/
def MZ (G : am_G) (bs : Nat) (h : am_H) (y : Nat) (g m : Nat → Int32) : Prop := MM h y g m ∧ HW h ∧ OG G bs h ∧ bs ≤ y ∧ (∃ tp, h.1 (y + 5) = some (.inl (0, 400, .inl tp))) ∧ (∃ fa, h.1 (y + 6) = some (.inl (0, 7, .inl fa)))
/-- what asking leaves of the numbers -/
def gK (g g' : Nat → Int32) : Prop := g' 0 = g 0 ∧ g' 3 = g 3 ∧ g' 6 = g 6 ∧ g' 8 = g 8 ∧ g' 12 = g 12 ∧ (Bz (g 15) ∧ Bz (g 16) → Bz (g' 15) ∧ Bz (g' 16))
theorem gK.refl {g : Nat → Int32} : gK g g := ⟨rfl, rfl, rfl, rfl, rfl, id⟩
theorem gK.trans {g g' g'' : Nat → Int32} (a : gK g g') (b : gK g' g'') : gK g g'' := ⟨b.1.trans a.1, b.2.1.trans a.2.1, b.2.2.1.trans a.2.2.1, b.2.2.2.1.trans a.2.2.2.1, b.2.2.2.2.1.trans a.2.2.2.2.1, fun z => b.2.2.2.2.2 (a.2.2.2.2.2 z)⟩
/-- what asking writes -/
def AP (y : Nat) : Nat → Prop := fun a => a = y ∨ a = y + 6
/-- what an hour writes -/
def PP (y : Nat) : Nat → Prop := fun a => a = y ∨ a = y + 6 ∨ a = y + 1
def huM (m : Nat → Int32) (p : Nat) : Int32 := if m 1 = -1 then maxF 0 (loadF m (nI p) - m (34 + 6 * p)) else lsumF 2 (fcF m p) (lwF m)
section
variable {G : am_G} {bs y : Nat} {h h0 : am_H} {g m : Nat → Int32} {p : Nat}
theorem MZ.keep (q : MZ G bs h y g m) {P : Nat → Prop} {h' : am_H} {c s : Nat} (f : HF P c s h h') (hp : ∀ a, P a → a < y ∧ bs ≤ a ∨ y + 10 ≤ a) : MZ G bs h' y g m := by
  obtain ⟨⟨q1, q2⟩, q3, q4, q5, ⟨tp, q6⟩, ⟨fa, q7⟩⟩ := q
  have no : ∀ a, y ≤ a → a < y + 10 → ¬ P a := fun a h1 h2 z => by have := hp a z; omega
  exact ⟨⟨f.k q1 (no _ (by omega) (by omega)), f.k q2 (no _ (by omega) (by omega))⟩, f.w, q4.keep f (fun a z => by have := hp a z; omega), q5, ⟨tp, f.k q6 (no _ (by omega) (by omega))⟩, ⟨fa, f.k q7 (no _ (by omega) (by omega))⟩⟩
theorem MZ.sg (q : MZ G bs h y g m) {g' : Nat → Int32} : MZ G bs (mh h y g') y g' m ∧ HF (AP y) 0 0 h (mh h y g') := by
  obtain ⟨⟨q1, q2⟩, q3, q4, q5, ⟨tp, q6⟩, ⟨fa, q7⟩⟩ := q
  have f : HF (fun a => a = y) 0 0 h (mh h y g') := HF.set q3 q1
  exact ⟨⟨⟨am_set_at, am_set_k q2 (by omega)⟩, f.w, q4.keep f (fun a z => by omega), q5, ⟨tp, am_set_k q6 (by omega)⟩, ⟨fa, am_set_k q7 (by omega)⟩⟩, f.mono (fun a z => Or.inl z) (Nat.le_refl _) (Nat.le_refl _)⟩
theorem MZ.sf (q : MZ G bs h y g m) {fa : Nat → Int32} : MZ G bs (am_set h (y + 6) (.inl (0, 7, .inl fa))) y g m ∧ HF (AP y) 0 0 h (am_set h (y + 6) (.inl (0, 7, .inl fa))) := by
  obtain ⟨⟨q1, q2⟩, q3, q4, q5, ⟨tp, q6⟩, ⟨fa0, q7⟩⟩ := q
  have f : HF (fun a => a = y + 6) 0 0 h (am_set h (y + 6) (.inl (0, 7, .inl fa))) := HF.set q3 q7
  exact ⟨⟨⟨am_set_k q1 (by omega), am_set_k q2 (by omega)⟩, f.w, q4.keep f (fun a z => by omega), q5, ⟨tp, am_set_k q6 (by omega)⟩, ⟨fa, am_set_at⟩⟩, f.mono (fun a z => Or.inr z) (Nat.le_refl _) (Nat.le_refl _)⟩
theorem MZ.sm (q : MZ G bs h y g m) {m' : Nat → Int32} : MZ G bs (am_set h (y + 1) (.inl (0, 769, .inl m'))) y g m' ∧ HF (PP y) 0 0 h (am_set h (y + 1) (.inl (0, 769, .inl m'))) := by
  obtain ⟨⟨q1, q2⟩, q3, q4, q5, ⟨tp, q6⟩, ⟨fa0, q7⟩⟩ := q
  have f : HF (fun a => a = y + 1) 0 0 h (am_set h (y + 1) (.inl (0, 769, .inl m'))) := HF.set q3 q2
  exact ⟨⟨⟨am_set_k q1 (by omega), am_set_at⟩, f.w, q4.keep f (fun a z => by omega), q5, ⟨tp, am_set_k q6 (by omega)⟩, ⟨fa0, am_set_k q7 (by omega)⟩⟩, f.mono (fun a z => Or.inr (Or.inr z)) (Nat.le_refl _) (Nat.le_refl _)⟩
theorem AP_PP {a : Nat} (z : AP y a) : PP y a := z.elim Or.inl (fun z => Or.inr (Or.inl z))
/-- the facts, written -/
theorem c_mAsks (q : MZ G bs h y g m) (v : VR m) (lv : LV m) (hp : p < nP m) : En G 32 m_X6_asks [.ref y, .int (nI p)] h (fun h' => ∃ g', MZ G bs h' y g' m ∧ gK g g' ∧ g' 17 = tiF m p ∧ g' 18 = eaF m p ∧ g' 19 = huM m p ∧ HF (AP y) 0 0 h h') := by
  have hp6 := v.pp.2
  have mm := q.1
  obtain ⟨⟨pl, hpl, epl⟩, -, -⟩ := v.pe p hp
  have o := mm.1
  have o1 := mm.2
  refine wc_in mt_X6_asks rfl (L := [.ref y, .int (nI p), am_un, am_un, am_un, am_un]) rfl ?_
  refine r_aload_0 rfl ?_
  refine r_iload_1 rfl ?_
  refine r_invvP_1 rfl o rfl rfl (by decide) (c_mload mm v _) ?_
  refine r_istore_2 rfl ?_
  refine r_aload_0 rfl ?_
  refine r_getf rfl o rfl ?_
  refine r_push rfl ?_
  refine r_iald rfl o1 (show (1 : Int32) = nI 1 from rfl) (by decide) (by decide) ?_
  refine r_push rfl ?_
  rcases lv with z1 | ⟨z1, e, z2, z3, z4⟩
  · -- no law
    refine r_icneF rfl z1 ?_
    refine r_push rfl ?_
    refine r_goto rfl ?_
    refine r_istore_3 rfl ?_
    refine r_aload_0 rfl ?_
    refine r_iload_3 rfl ?_
    refine r_ifeqF rfl (by decide) ?_
    refine r_iload_2 rfl ?_
    refine r_push rfl ?_
    refine r_idiv rfl (by decide) ?_
    refine r_goto rfl ?_
    refine r_puti rfl o rfl ?_
    rw [mo_17]
    have Z1 := (q.sg (g' := upd g 17 (loadF m (nI p) / 4)))
    refine r_aload_0 rfl ?_
    refine r_iload_3 rfl ?_
    refine r_ifeqF rfl (by decide) ?_
    refine r_push rfl ?_
    refine r_push rfl ?_
    refine r_iload_2 rfl ?_
    refine r_push rfl ?_
    refine r_idiv rfl (by decide) ?_
    refine r_isub rfl ?_
    refine r_invP_2 rfl rfl (by decide) (c_greater _ _) ?_
    refine r_goto rfl ?_
    refine r_puti rfl am_set_at rfl ?_
    rw [mo_18, am_set_set]
    have Z2 := (q.sg (g' := upd (upd g 17 (loadF m (nI p) / 4)) 18 (maxF 0 (10 - loadF m (nI p) / 4))))
    refine r_aload_0 rfl ?_
    refine r_iload_3 rfl ?_
    refine r_ifeqF rfl (by decide) ?_
    refine r_push rfl ?_
    refine r_iload_2 rfl ?_
    refine r_aload_0 rfl ?_
    refine r_iload_1 rfl ?_
    refine r_push rfl ?_
    refine r_invvP_2 rfl am_set_at rfl rfl (by decide) (c_of1 Z2.1.1 (by omega)) ?_
    refine r_isub rfl ?_
    refine r_invP_2 rfl rfl (by decide) (c_greater _ _) ?_
    refine r_goto rfl ?_
    refine r_puti rfl am_set_at rfl ?_
    rw [mo_19, am_set_set]
    have Z3 := (q.sg (g' := upd (upd (upd g 17 (loadF m (nI p) / 4)) 18 (maxF 0 (10 - loadF m (nI p) / 4))) 19 (maxF 0 (loadF m (nI p) - m (34 + 6 * p)))))
    refine r_iload_3 rfl ?_
    refine r_ifeqF rfl (by decide) ?_
    refine r_vret rfl ?_
    refine ⟨_, rfl, _, Z3.1, ⟨rfl, rfl, rfl, rfl, rfl, id⟩, ?_, ?_, ?_, Z3.2⟩
    · unfold tiF; rw [if_pos z1]; rfl
    · unfold eaF; rw [if_pos z1]; rfl
    · unfold huM; rw [if_pos z1]; rfl
  · refine r_icneT rfl z1 ?_
    refine r_push rfl ?_
    refine r_istore_3 rfl ?_
    refine r_aload_0 rfl ?_
    refine r_iload_3 rfl ?_
    refine r_ifeqT rfl rfl ?_
    refine r_push rfl ?_
    refine r_puti rfl o rfl ?_
    rw [mo_17]
    refine r_aload_0 rfl ?_
    refine r_iload_3 rfl ?_
    refine r_ifeqT rfl rfl ?_
    refine r_push rfl ?_
    refine r_puti rfl am_set_at rfl ?_
    rw [mo_18, am_set_set]
    refine r_aload_0 rfl ?_
    refine r_iload_3 rfl ?_
    refine r_ifeqT rfl rfl ?_
    refine r_push rfl ?_
    refine r_puti rfl am_set_at rfl ?_
    rw [mo_19, am_set_set]
    refine r_iload_3 rfl ?_
    refine r_ifeqT rfl rfl ?_
    have Z0 := (q.sg (g' := upd (upd (upd g 17 0) 18 0) 19 0))
    generalize hg1 : upd (upd (upd g 17 0) 18 0) 19 0 = g1 at *
    obtain ⟨Z0, F0⟩ := Z0
    change Wp G 32 _ _ _ _ (mh h y g1) _
    generalize mh h y g1 = h1 at Z0 F0 ⊢
    obtain ⟨fa0, ofa⟩ := Z0.2.2.2.2.2
    have oy := Z0.1.1
    have om := Z0.1.2
    have keep1 : ∀ {fa : Nat → Int32}, (am_set h1 (y + 6) (.inl (0, 7, .inl fa))).1 y = some (mcell y g1) := fun {fa} => am_set_k oy (by omega)
    have keep2 : ∀ {fa : Nat → Int32}, (am_set h1 (y + 6) (.inl (0, 7, .inl fa))).1 (y + 1) = some (.inl (0, 769, .inl m)) := fun {fa} => am_set_k om (by omega)
    have kmm : ∀ {fa : Nat → Int32}, MM (am_set h1 (y + 6) (.inl (0, 7, .inl fa))) y g1 m := ⟨keep1, keep2⟩
    refine r_aload_0 rfl ?_
    refine r_getf rfl oy rfl ?_
    refine r_push rfl ?_
    refine r_iload_1 rfl ?_
    refine r_iast rfl ofa (show (0 : Int32) = nI 0 from rfl) (by decide) (by decide) ?_
    refine r_aload_0 rfl ?_
    refine r_getf rfl keep1 rfl ?_
    refine r_push rfl ?_
    refine r_iload_2 rfl ?_
    refine r_iast rfl am_set_at (show (1 : Int32) = nI 1 from rfl) (by decide) (by decide) ?_
    rw [am_set_set]
    refine r_aload_0 rfl ?_
    refine r_getf rfl keep1 rfl ?_
    refine r_push rfl ?_
    refine r_aload_0 rfl ?_
    refine r_iload_1 rfl ?_
    refine r_push rfl ?_
    refine r_invvP_2 rfl keep1 rfl rfl (by decide) (c_of1 kmm (by omega)) ?_
    refine r_iast rfl am_set_at (show (2 : Int32) = nI 2 from rfl) (by decide) (by decide) ?_
    rw [am_set_set]
    refine r_aload_0 rfl ?_
    refine r_getf rfl keep1 rfl ?_
    refine r_push rfl ?_
    refine r_aload_0 rfl ?_
    refine r_iload_1 rfl ?_
    refine r_push rfl ?_
    refine r_invvP_2 rfl keep1 rfl rfl (by decide) (c_of2 kmm (by omega)) ?_
    refine r_iast rfl am_set_at (show (3 : Int32) = nI 3 from rfl) (by decide) (by decide) ?_
    rw [am_set_set]
    refine r_aload_0 rfl ?_
    refine r_getf rfl keep1 rfl ?_
    refine r_push rfl ?_
    refine r_aload_0 rfl ?_
    refine r_getf rfl keep1 rfl ?_
    refine r_push rfl ?_
    refine r_aload_0 rfl ?_
    refine r_iload_1 rfl ?_
    refine r_push rfl ?_
    refine r_invvP_2 rfl keep1 rfl rfl (by decide) (c_of2 kmm (by omega)) ?_
    refine r_iadd rfl ?_
    refine r_iald rfl keep2 (j := 9 + pl) (by rw [epl, show (9 : Int32) = nI 9 from rfl, nI_add]) (by omega) (by decide) ?_
    refine r_iast rfl am_set_at (show (4 : Int32) = nI 4 from rfl) (by decide) (by decide) ?_
    rw [am_set_set]
    refine r_aload_0 rfl ?_
    refine r_getf rfl keep1 rfl ?_
    refine r_push rfl ?_
    refine r_aload_0 rfl ?_
    refine r_iload_1 rfl ?_
    refine r_push rfl ?_
    refine r_invvP_2 rfl keep1 rfl rfl (by decide) (c_of4 kmm (by omega)) ?_
    refine r_iast rfl am_set_at (show (5 : Int32) = nI 5 from rfl) (by decide) (by decide) ?_
    rw [am_set_set]
    refine r_aload_0 rfl ?_
    refine r_getf rfl keep1 rfl ?_
    refine r_push rfl ?_
    refine r_aload_0 rfl ?_
    refine r_getf rfl keep1 rfl ?_
    refine r_push rfl ?_
    refine r_iald rfl keep2 (show (5 : Int32) = nI 5 from rfl) (by decide) (by decide) ?_
    refine r_push rfl ?_
    refine r_irem rfl (by decide) ?_
    refine r_iast rfl am_set_at (show (6 : Int32) = nI 6 from rfl) (by decide) (by decide) ?_
    rw [am_set_set]
    generalize hfa : upd (upd (upd (upd (upd (upd (upd fa0 0 (nI p)) 1 (loadF m (nI p))) 2 (m (34 + 6 * p))) 3 (m (35 + 6 * p))) 4 (m (9 + pl))) 5 (m (37 + 6 * p))) 6 (m 5 - m 5 / 24 * 24) = fa
    have hfF : ∀ k, k < 7 → fa k = fcF m p k := by
      intro k hk
      have ecl : (m (35 + 6 * p)).toNatClampNeg = pl := by rw [epl]; exact nI_clamp (by omega)
      rcases (show k = 0 ∨ k = 1 ∨ k = 2 ∨ k = 3 ∨ k = 4 ∨ k = 5 ∨ k = 6 by omega) with rfl | rfl | rfl | rfl | rfl | rfl | rfl <;> subst hfa
      · rfl
      · rfl
      · rfl
      · rfl
      · show m (9 + pl) = m (9 + (m (35 + 6 * p)).toNatClampNeg)
        rw [ecl]
      · rfl
      · rfl
    obtain ⟨Z1, F1⟩ := Z0.sf (fa := fa)
    have ofa1 : (am_set h1 (y + 6) (.inl (0, 7, .inl fa))).1 (y + 6) = some (.inl (0, 7, .inl fa)) := am_set_at
    have F01 : HF (AP y) 0 0 h (am_set h1 (y + 6) (.inl (0, 7, .inl fa))) := (HF.trans F0 F1).mono (fun _ z => z) (Nat.le_refl _) (Nat.le_refl _)
    generalize am_set h1 (y + 6) (.inl (0, 7, .inl fa)) = h2 at Z1 F01 ofa1 ⊢
    clear F1 keep1 keep2 kmm
    have oy2 := Z1.1.1
    have om2 := Z1.1.2
    have fin : ∀ b7 b8 : Bool, decide (m (35 + 6 * p) = m (36 + 6 * p)) = b7 → decide (loadF m (nI p) = 0) = b8 → Wp G 32 mt_X6_asks 211 [.ref y, .int (nI p), .int (loadF m (nI p)), .int 0, am_un, am_un] [] (mh h2 y (upd (upd g1 15 (bI b7)) 16 (bI b8))) (fun R => ∃ h', R = .inl (none, h') ∧ ∃ g', MZ G bs h' y g' m ∧ gK g g' ∧ g' 17 = tiF m p ∧ g' 18 = eaF m p ∧ g' 19 = huM m p ∧ HF (AP y) 0 0 h h') := by
      intro b7 b8 hb7 hb8
      have om3 : (mh h2 y (upd (upd g1 15 (bI b7)) 16 (bI b8))).1 (y + 1) = some (.inl (0, 769, .inl m)) := am_set_k om2 (by omega)
      refine r_aload_0 rfl ?_
      refine r_getf rfl am_set_at rfl ?_
      refine r_istore_4 rfl ?_
      refine r_aload_0 rfl ?_
      refine r_push rfl ?_
      refine r_puti rfl am_set_at rfl ?_
      rw [mo_12, am_set_set]
      refine r_aload_0 rfl ?_
      refine r_push rfl ?_
      refine r_puti rfl am_set_at rfl ?_
      rw [mo_9, am_set_set]
      refine r_aload_0 rfl ?_
      refine r_aload_0 rfl ?_
      refine r_getf rfl am_set_at rfl ?_
      refine r_push rfl ?_
      refine r_iald rfl (am_set_k om2 (by omega)) (show (2 : Int32) = nI 2 from rfl) (by decide) (by decide) ?_
      refine r_puti rfl am_set_at rfl ?_
      rw [mo_10, am_set_set]
      refine r_aload_0 rfl ?_
      refine r_push rfl ?_
      refine r_puti rfl am_set_at rfl ?_
      rw [mo_11, am_set_set]
      refine r_aload_0 rfl ?_
      refine r_push rfl ?_
      refine r_puti rfl am_set_at rfl ?_
      rw [mo_13, am_set_set]
      generalize hg2 : upd (upd (upd (upd (upd (upd (upd g1 15 (bI b7)) 16 (bI b8)) 12 (-1)) 9 369) 10 (m 2)) 11 0) 13 0 = g2
      have S : MS G bs (mh h2 y g2) y g2 (txF m) e (fcF m p) := by
        obtain ⟨tp, otp⟩ := Z1.2.2.2.2.1
        subst hg2
        refine ⟨⟨am_set_at, ⟨m, tp, am_set_k om2 (by omega), am_set_k otp (by omega), Or.inr ⟨rfl, fun _ _ => rfl⟩⟩, z2, z3⟩, ⟨fa, am_set_k ofa1 (by omega), hfF⟩, ⟨?_, ?_, bI_z _, bI_z _⟩, Z1.2.2.1.same (fun a e9 z9 q9 => am_set_k q9 (by have := Z1.2.2.2.1; omega)), Z1.2.2.2.1⟩
        · show bI b7 = bI (decide (m (35 + 6 * p) = m (36 + 6 * p)))
          rw [hb7]
        · show bI b8 = bI (decide (loadF m (nI p) = 0))
          rw [hb8]
      have rd := kReadLaw S (by rw [← hg2]; rfl) (by rw [← hg2]; rfl)
      have e0 : mK (mh h2 y g2) y g2 0 = mh h2 y g2 := mK_id am_set_at (by rw [← hg2]; rfl)
      rw [e0, z4] at rd
      refine r_aload_0 rfl ?_
      refine r_push rfl ?_
      refine r_invvR rfl rfl am_set_at rfl rfl (by decide) rd ?_
      rintro R (⟨ls, q1, q2, rfl⟩ | ⟨z, a9, dp, ls, n, q1, q2, rfl⟩)
      · cases q1
        show Wp G 32 mt_X6_asks 254 _ _ (mK (mh h2 y g2) y (sumG g2 (fcF m p) (lwF m)) e) _
        rw [mK_mh]
        refine r_istore_5 rfl ?_
        refine r_aload_0 rfl ?_
        refine r_iload_4 rfl ?_
        refine r_puti rfl am_set_at rfl ?_
        rw [mo_12, am_set_set]
        refine r_vret rfl ?_
        have Z3 := Z1.sg (g' := upd (upd (sumG g2 (fcF m p) (lwF m)) 11 (nI e)) 12 (upd (upd g1 15 (bI b7)) 16 (bI b8) 12))
        have ez : ∀ x : Int32, (0 : Int32) + x = x := Int32.zero_add
        refine ⟨_, rfl, _, Z3.1, ?_, ?_, ?_, ?_, (HF.trans F01 Z3.2).mono (fun _ z => z) (Nat.le_refl _) (Nat.le_refl _)⟩
        · rw [← hg2, ← hg1]; exact ⟨rfl, rfl, rfl, rfl, rfl, fun _ => ⟨bI_z b7, bI_z b8⟩⟩
        · unfold tiF; rw [if_neg z1, ← hg2, ← hg1]; exact ez _
        · unfold eaF; rw [if_neg z1, ← hg2, ← hg1]; exact ez _
        · unfold huM; rw [if_neg z1, ← hg2, ← hg1]; exact ez _
      · cases q1
    refine r_aload_0 rfl ?_
    refine r_aload_0 rfl ?_
    refine r_iload_1 rfl ?_
    refine r_push rfl ?_
    refine r_invvP_2 rfl oy2 rfl rfl (by decide) (c_of2 Z1.1 (by omega)) ?_
    refine r_aload_0 rfl ?_
    refine r_iload_1 rfl ?_
    refine r_push rfl ?_
    refine r_invvP_2 rfl oy2 rfl rfl (by decide) (c_of3 Z1.1 (by omega)) ?_
    have fin8 : ∀ b7 : Bool, decide (m (35 + 6 * p) = m (36 + 6 * p)) = b7 → Wp G 32 mt_X6_asks 195 [.ref y, .int (nI p), .int (loadF m (nI p)), .int 0, am_un, am_un] [.int (bI b7), .ref y] h2 (fun R => ∃ h', R = .inl (none, h') ∧ ∃ g', MZ G bs h' y g' m ∧ gK g g' ∧ g' 17 = tiF m p ∧ g' 18 = eaF m p ∧ g' 19 = huM m p ∧ HF (AP y) 0 0 h h') := by
      intro b7 hb7
      refine r_putz rfl oy2 (bI_01 _) rfl ?_
      rw [mo_15]
      refine r_aload_0 rfl ?_
      refine r_iload_2 rfl ?_
      refine r_ifne rfl (fun c => ?_) (fun c => ?_)
      · refine r_push rfl ?_
        refine r_putz rfl am_set_at (Or.inl rfl) rfl ?_
        rw [mo_16, am_set_set]
        exact fin b7 false hb7 (decide_eq_false c)
      · refine r_push rfl ?_
        refine r_goto rfl ?_
        refine r_putz rfl am_set_at (Or.inr rfl) rfl ?_
        rw [mo_16, am_set_set]
        exact fin b7 true hb7 (decide_eq_true c)
    refine r_icne rfl (fun c => ?_) (fun c => ?_)
    · refine r_push rfl ?_
      exact fin8 false (decide_eq_false c)
    · refine r_push rfl ?_
      refine r_goto rfl ?_
      exact fin8 true (decide_eq_true c)
end
