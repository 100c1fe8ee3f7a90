/-! CONSTRUCTORS: what the law begins with -/
set_option maxRecDepth 100000
section
variable {G : am_G} {P : Nat → Prop} {hb h : am_H} {w bs : Nat} {cs : Nat → am_C}
theorem r_niA {d : Nat} {M : am_M} {pc nx j cls n s x : Nat} {L st : List Value} {fs : List Value} {Q : am_O → Prop} (hf : M.1 pc = some (a_puta cls j nx)) (hl : Nat.blt j fs.length = true) (q : NI P hb h w cls n s fs cs) (kk : ∀ h', NI P hb h' w cls n s (am_st fs j (.ref x)) cs → Wp G d M nx L st h' Q) : Wp G d M pc L (.ref x :: .ref w :: st) h Q :=
  r_puta hf q.2.1 hl (kk _ (ni_put q))
theorem c_x3Init (q : NI P hb h w 2 0 7 [.null, .int 0, .int 0, .int 0, .int 0, .int 0, .int 0] cs) : En G 0 m_X3_init [.ref w] h (fun h' => RS h' w (fun _ => 0) 0 0 0 0 (-1) 0 ∧ HF P 2 407 hb h' ∧ h'.2.1 = w + 2) := by
  refine wc_in mt_X3_init rfl (L := [.ref w]) rfl ?_
  refine r_aload_0 rfl ?_
  refine r_oinit rfl rfl ?_
  refine r_aload_0 rfl ?_
  refine r_push rfl ?_
  refine r_newi rfl (n := 400) rfl (by decide) ?_
  refine r_ni rfl rfl q (fun hA qA => ?_)
  refine r_aload_0 rfl ?_
  refine r_push rfl ?_
  refine r_niP rfl rfl qA (fun hB qB => ?_)
  refine r_vret rfl ?_
  obtain ⟨z1, z2, z3, z4, -, -⟩ := qB
  exact ⟨_, rfl, ⟨z2, z3 0 (by decide)⟩, z4, z1⟩
theorem c_x4Init : Vn G 0 m_X4_init [.ref w] h := by
  refine wc_in mt_X4_init rfl (L := [.ref w]) rfl ?_
  refine r_aload_0 rfl ?_
  refine r_oinit rfl rfl ?_
  refine r_vret rfl ?_
  rfl
theorem c_x5Init {x : Nat} (q : NI P hb h w 5 0 8 [.null, .null, .null, .int 0, .int 0, .null, .null, .null] cs) : En G 0 m_X5_init [.ref w, .ref x] h (fun h' => h'.1 w = some (.inr (5, [.ref (w + 1), .ref (w + 2), .ref (w + 3), .int 0, .int 0, .ref (w + 4), .ref (w + 5), .ref x])) ∧ h'.1 (w + 1) = some (.inl (0, 7168, .inl fun _ => 0)) ∧ h'.1 (w + 2) = some (.inl (0, 6, .inl fun _ => 0)) ∧ h'.1 (w + 3) = some (.inl (0, 1024, .inl fun _ => 0)) ∧ h'.1 (w + 4) = some (.inl (0, 6, .inl fun _ => 0)) ∧ h'.1 (w + 5) = some (.inl (1, 1024, .inl fun _ => 0)) ∧ HF P 6 9236 hb h' ∧ h'.2.1 = w + 6) := by
  refine wc_in mt_X5_init rfl (L := [.ref w, .ref x]) rfl ?_
  refine r_aload_0 rfl ?_
  refine r_aload_1 rfl ?_
  refine r_niA rfl rfl q (fun h0 q0 => ?_)
  refine r_aload_0 rfl ?_
  refine r_oinit rfl rfl ?_
  refine r_aload_0 rfl ?_
  refine r_push rfl ?_
  refine r_newi rfl (n := 7168) rfl (by decide) ?_
  refine r_ni rfl rfl q0 (fun hA0 qA0 => ?_)
  refine r_aload_0 rfl ?_
  refine r_push rfl ?_
  refine r_newi rfl (n := 6) rfl (by decide) ?_
  refine r_ni rfl rfl qA0 (fun hA1 qA1 => ?_)
  refine r_aload_0 rfl ?_
  refine r_push rfl ?_
  refine r_newi rfl (n := 1024) rfl (by decide) ?_
  refine r_ni rfl rfl qA1 (fun hA2 qA2 => ?_)
  refine r_aload_0 rfl ?_
  refine r_push rfl ?_
  refine r_newi rfl (n := 6) rfl (by decide) ?_
  refine r_ni rfl rfl qA2 (fun hA3 qA3 => ?_)
  refine r_aload_0 rfl ?_
  refine r_push rfl ?_
  refine r_newi rfl (n := 1024) rfl (by decide) ?_
  refine r_ni rfl rfl qA3 (fun hA4 qA4 => ?_)
  refine r_vret rfl ?_
  obtain ⟨z1, z2, z3, z4, -, -⟩ := qA4
  exact ⟨_, rfl, z2, z3 0 (by decide), z3 1 (by decide), z3 2 (by decide), z3 3 (by decide), z3 4 (by decide), z4, z1⟩
def g0F : Nat → Int32 := fun k => if k = 12 then -1 else 0
theorem m0_eq : upd (upd (upd (fun _ => 0) 1 (-1)) 6 40) 8 1 = m0F := by
  funext k
  unfold m0F upd
  by_cases a : k = 8
  · subst a; rfl
  · rw [if_neg a]
    by_cases b : k = 6
    · subst b; rfl
    · rw [if_neg b, if_neg b, if_neg a]
theorem c_x6Init (q : NI P hb h w 16 0 23 [.int 0, .null, .null, .int 0, .null, .null, .int 0, .null, .int 0, .int 0, .int 0, .int 0, .int 0, .int 0, .null, .int 0, .int 0, .int 0, .int 0, .int 0, .null, .null, .null] cs) : En G 0 m_X6_init [.ref w] h (fun h' => MM h' w g0F m0F ∧ h'.1 (w + 2) = some (.inl (0, 769, .inl fun _ => 0)) ∧ h'.1 (w + 3) = some (.inl (0, 369, .inl fun _ => 0)) ∧ h'.1 (w + 4) = some (.inl (0, 4428, .inl fun _ => 0)) ∧ h'.1 (w + 5) = some (.inl (0, 400, .inl fun _ => 0)) ∧ h'.1 (w + 6) = some (.inl (0, 7, .inl fun _ => 0)) ∧ h'.1 (w + 7) = some (.inl (0, 1024, .inl fun _ => 0)) ∧ h'.1 (w + 8) = some (.inl (0, 1024, .inl fun _ => 0)) ∧ h'.1 (w + 9) = some (.inl (0, 6, .inl fun _ => 0)) ∧ HF P 10 8819 hb h' ∧ h'.2.1 = w + 10) := by
  refine wc_in mt_X6_init rfl (L := [.ref w]) rfl ?_
  refine r_aload_0 rfl ?_
  refine r_oinit rfl rfl ?_
  refine r_aload_0 rfl ?_
  refine r_push rfl ?_
  refine r_newi rfl (n := 769) rfl (by decide) ?_
  refine r_ni rfl rfl q (fun hA0 qA0 => ?_)
  refine r_aload_0 rfl ?_
  refine r_push rfl ?_
  refine r_newi rfl (n := 769) rfl (by decide) ?_
  refine r_ni rfl rfl qA0 (fun hA1 qA1 => ?_)
  refine r_aload_0 rfl ?_
  refine r_push rfl ?_
  refine r_newi rfl (n := 369) rfl (by decide) ?_
  refine r_ni rfl rfl qA1 (fun hA2 qA2 => ?_)
  refine r_aload_0 rfl ?_
  refine r_push rfl ?_
  refine r_newi rfl (n := 4428) rfl (by decide) ?_
  refine r_ni rfl rfl qA2 (fun hA3 qA3 => ?_)
  refine r_aload_0 rfl ?_
  refine r_push rfl ?_
  refine r_newi rfl (n := 400) rfl (by decide) ?_
  refine r_ni rfl rfl qA3 (fun hA4 qA4 => ?_)
  refine r_aload_0 rfl ?_
  refine r_push rfl ?_
  refine r_niP rfl rfl qA4 (fun hB qB => ?_)
  refine r_aload_0 rfl ?_
  refine r_push rfl ?_
  refine r_newi rfl (n := 7) rfl (by decide) ?_
  refine r_ni rfl rfl qB (fun hC0 qC0 => ?_)
  refine r_aload_0 rfl ?_
  refine r_push rfl ?_
  refine r_newi rfl (n := 1024) rfl (by decide) ?_
  refine r_ni rfl rfl qC0 (fun hC1 qC1 => ?_)
  refine r_aload_0 rfl ?_
  refine r_push rfl ?_
  refine r_newi rfl (n := 1024) rfl (by decide) ?_
  refine r_ni rfl rfl qC1 (fun hC2 qC2 => ?_)
  refine r_aload_0 rfl ?_
  refine r_push rfl ?_
  refine r_newi rfl (n := 6) rfl (by decide) ?_
  refine r_ni rfl rfl qC2 (fun hC3 qC3 => ?_)
  obtain ⟨z1, z2, z3, z4, z5, z6⟩ := qC3
  have y1 := z3 0 (by decide); have y2 := z3 1 (by decide); have y3 := z3 2 (by decide); have y4 := z3 3 (by decide); have y5 := z3 4 (by decide); have y6 := z3 5 (by decide); have y7 := z3 6 (by decide); have y8 := z3 7 (by decide); have y9 := z3 8 (by decide)
  have k0 : hC3.1 (w + 1) = some (.inl (0, 769, .inl fun _ => 0)) := y1
  have zz : hC3.1 w = some (mcell w g0F) := z2
  clear qB qC0 qC1 qC2 qA0 qA1 qA2 qA3 qA4 q z3
  refine r_aload_0 rfl ?_
  refine r_getf rfl zz rfl ?_
  refine r_push rfl ?_
  refine r_push rfl ?_
  refine r_iast rfl k0 (show (1 : Int32) = nI 1 from rfl) (by decide) (by decide) ?_
  refine r_aload_0 rfl ?_
  refine r_getf rfl (am_set_k zz (by omega)) rfl ?_
  refine r_push rfl ?_
  refine r_push rfl ?_
  refine r_iast rfl am_set_at (show (6 : Int32) = nI 6 from rfl) (by decide) (by decide) ?_
  rw [am_set_set]
  refine r_aload_0 rfl ?_
  refine r_getf rfl (am_set_k zz (by omega)) rfl ?_
  refine r_push rfl ?_
  refine r_push rfl ?_
  refine r_iast rfl am_set_at (show (8 : Int32) = nI 8 from rfl) (by decide) (by decide) ?_
  rw [am_set_set, m0_eq]
  refine r_vret rfl ?_
  refine ⟨_, rfl, ⟨am_set_k zz (by omega), am_set_at⟩, am_set_k y2 (by omega), am_set_k y3 (by omega), am_set_k y4 (by omega), am_set_k y5 (by omega), am_set_k y6 (by omega), am_set_k y7 (by omega), am_set_k y8 (by omega), am_set_k y9 (by omega), HF.setN z4 k0 z6 (by omega), z1⟩
theorem c_x1Init (wb : HW hb) (og : OG G bs hb) (hbs : bs ≤ w) (hx : hb.2.1 = w) : En G 3 m_X1_init [.ref w] (am_new hb (.inr (0, [.null, .null, .null, .int 0, .null, .null, .null, .null, .null, .null, .null])) 11) (fun h' => h'.2.1 = w + 87 ∧ h'.1 w = some (.inr (0, xobj w false)) ∧ WA h' (w + 1) m0F (fun _ => 0) .null ∧ WA h' (w + 16) m0F (fun _ => 0) .null ∧ WA h' (w + 31) m0F (fun _ => 0) .null ∧ RS h' (w + 46) (fun _ => 0) 0 0 0 0 (-1) 0 ∧ h'.1 (w + 48) = some (.inr (3, sobj fun _ => 0)) ∧ WA h' (w + 49) m0F (fun _ => 0) .null ∧ (∃ arr, arr < bs ∧ AL G bs h' (w + 64) arr []) ∧ SHB h' w ∧ (∃ f, h'.1 (w + 71) = some (.inl (0, 64, .inl f))) ∧ WA h' (w + 72) m0F (fun _ => 0) .null ∧ HF (fun _ => False) 87 12000 hb h') := by
  have hbw : ∀ a e, hb.1 a = some e → a < w := fun a e q => by have := wb a e q; omega
  have F0 : HF (fun _ => False) 1 11 hb (am_new hb (.inr (0, [.null, .null, .null, .int 0, .null, .null, .null, .null, .null, .null, .null])) 11) := HF.new wb
  have o0 : (am_new hb (.inr (0, [.null, .null, .null, .int 0, .null, .null, .null, .null, .null, .null, .null])) 11).1 w = some (.inr (0, [.null, .null, .null, .int 0, .null, .null, .null, .null, .null, .null, .null])) := by rw [← hx]; exact am_new_at
  have n0 : (am_new hb (.inr (0, [.null, .null, .null, .int 0, .null, .null, .null, .null, .null, .null, .null])) 11).2.1 = w + 1 := by show hb.2.1 + 1 = _; omega
  generalize am_new hb (.inr (0, [.null, .null, .null, .int 0, .null, .null, .null, .null, .null, .null, .null])) 11 = h0 at *
  refine wc_in mt_X1_init rfl (L := [.ref w]) rfl ?_
  refine r_aload_0 rfl ?_
  refine r_oinit rfl rfl ?_
  have w0 := F0.w
  have og0 := og.keep F0 (fun _ z => z.elim)
  refine r_aload_0 rfl ?_
  refine r_new rfl rfl ?_
  refine r_dupR rfl ?_
  refine r_inviF rfl rfl rfl (by decide) (c_wInit (P := fun _ => False) (ni_new w0 (cs := fun _ => .inl (0, 0, .inl fun _ => 0)))) ?_
  rintro g0 ⟨a0, f0, e0⟩
  rw [n0] at a0 e0
  rw [n0]
  have p0 := f0.k o0 (fun z => z)
  refine r_puta rfl p0 rfl ?_
  show Wp G 3 mt_X1_init _ _ _ (am_set g0 w (.inr (0, [.ref (w + 1), .null, .null, .int 0, .null, .null, .null, .null, .null, .null, .null]))) _
  have F1 : HF (fun _ => False) 16 383 hb (am_set g0 w (.inr (0, [.ref (w + 1), .null, .null, .int 0, .null, .null, .null, .null, .null, .null, .null]))) := HF.setN ((HF.trans F0 f0).mono (fun _ z => z) (Nat.le_refl _) (Nat.le_refl _)) p0 wb (by omega)
  have T0 : HF (fun z => z = w) 15 372 h0 (am_set g0 w (.inr (0, [.ref (w + 1), .null, .null, .int 0, .null, .null, .null, .null, .null, .null, .null]))) := HF.setP (f0.mono (fun _ z => z.elim) (Nat.le_refl _) (Nat.le_refl _)) p0 rfl
  have o1 : (am_set g0 w (.inr (0, [.ref (w + 1), .null, .null, .int 0, .null, .null, .null, .null, .null, .null, .null]))).1 w = some (.inr (0, [.ref (w + 1), .null, .null, .int 0, .null, .null, .null, .null, .null, .null, .null])) := am_set_at
  have n1 : (am_set g0 w (.inr (0, [.ref (w + 1), .null, .null, .int 0, .null, .null, .null, .null, .null, .null, .null]))).2.1 = w + 16 := e0
  have A0 : WA (am_set g0 w (.inr (0, [.ref (w + 1), .null, .null, .int 0, .null, .null, .null, .null, .null, .null, .null]))) (w + 1) m0F (fun _ => 0) .null := fun i hi => am_set_k (a0 i hi) (by omega)
  clear a0 e0 og0 w0 o0 n0
  generalize am_set g0 w (.inr (0, [.ref (w + 1), .null, .null, .int 0, .null, .null, .null, .null, .null, .null, .null])) = h1 at *
  clear p0 f0 F0
  have w1 := F1.w
  have og1 := og.keep F1 (fun _ z => z.elim)
  refine r_aload_0 rfl ?_
  refine r_new rfl rfl ?_
  refine r_dupR rfl ?_
  refine r_inviF rfl rfl rfl (by decide) (c_wInit (P := fun _ => False) (ni_new w1 (cs := fun _ => .inl (0, 0, .inl fun _ => 0)))) ?_
  rintro g1 ⟨a1, f1, e1⟩
  rw [n1] at a1 e1
  rw [n1]
  have p1 := f1.k o1 (fun z => z)
  refine r_puta rfl p1 rfl ?_
  show Wp G 3 mt_X1_init _ _ _ (am_set g1 w (.inr (0, [.ref (w + 1), .ref (w + 16), .null, .int 0, .null, .null, .null, .null, .null, .null, .null]))) _
  have F2 : HF (fun _ => False) 31 755 hb (am_set g1 w (.inr (0, [.ref (w + 1), .ref (w + 16), .null, .int 0, .null, .null, .null, .null, .null, .null, .null]))) := HF.setN ((HF.trans F1 f1).mono (fun _ z => z) (Nat.le_refl _) (Nat.le_refl _)) p1 wb (by omega)
  have T1 : HF (fun z => z = w) 15 372 h1 (am_set g1 w (.inr (0, [.ref (w + 1), .ref (w + 16), .null, .int 0, .null, .null, .null, .null, .null, .null, .null]))) := HF.setP (f1.mono (fun _ z => z.elim) (Nat.le_refl _) (Nat.le_refl _)) p1 rfl
  have o2 : (am_set g1 w (.inr (0, [.ref (w + 1), .ref (w + 16), .null, .int 0, .null, .null, .null, .null, .null, .null, .null]))).1 w = some (.inr (0, [.ref (w + 1), .ref (w + 16), .null, .int 0, .null, .null, .null, .null, .null, .null, .null])) := am_set_at
  have n2 : (am_set g1 w (.inr (0, [.ref (w + 1), .ref (w + 16), .null, .int 0, .null, .null, .null, .null, .null, .null, .null]))).2.1 = w + 31 := e1
  have A1 : WA (am_set g1 w (.inr (0, [.ref (w + 1), .ref (w + 16), .null, .int 0, .null, .null, .null, .null, .null, .null, .null]))) (w + 16) m0F (fun _ => 0) .null := fun i hi => am_set_k (a1 i hi) (by omega)
  clear a1 e1 og1 w1 o1 n1
  generalize am_set g1 w (.inr (0, [.ref (w + 1), .ref (w + 16), .null, .int 0, .null, .null, .null, .null, .null, .null, .null])) = h2 at *
  clear p1 f1 F1
  have w2 := F2.w
  have og2 := og.keep F2 (fun _ z => z.elim)
  refine r_aload_0 rfl ?_
  refine r_new rfl rfl ?_
  refine r_dupR rfl ?_
  refine r_inviF rfl rfl rfl (by decide) (c_wInit (P := fun _ => False) (ni_new w2 (cs := fun _ => .inl (0, 0, .inl fun _ => 0)))) ?_
  rintro g2 ⟨a2, f2, e2⟩
  rw [n2] at a2 e2
  rw [n2]
  have p2 := f2.k o2 (fun z => z)
  refine r_puta rfl p2 rfl ?_
  show Wp G 3 mt_X1_init _ _ _ (am_set g2 w (.inr (0, [.ref (w + 1), .ref (w + 16), .ref (w + 31), .int 0, .null, .null, .null, .null, .null, .null, .null]))) _
  have F3 : HF (fun _ => False) 46 1127 hb (am_set g2 w (.inr (0, [.ref (w + 1), .ref (w + 16), .ref (w + 31), .int 0, .null, .null, .null, .null, .null, .null, .null]))) := HF.setN ((HF.trans F2 f2).mono (fun _ z => z) (Nat.le_refl _) (Nat.le_refl _)) p2 wb (by omega)
  have T2 : HF (fun z => z = w) 15 372 h2 (am_set g2 w (.inr (0, [.ref (w + 1), .ref (w + 16), .ref (w + 31), .int 0, .null, .null, .null, .null, .null, .null, .null]))) := HF.setP (f2.mono (fun _ z => z.elim) (Nat.le_refl _) (Nat.le_refl _)) p2 rfl
  have o3 : (am_set g2 w (.inr (0, [.ref (w + 1), .ref (w + 16), .ref (w + 31), .int 0, .null, .null, .null, .null, .null, .null, .null]))).1 w = some (.inr (0, [.ref (w + 1), .ref (w + 16), .ref (w + 31), .int 0, .null, .null, .null, .null, .null, .null, .null])) := am_set_at
  have n3 : (am_set g2 w (.inr (0, [.ref (w + 1), .ref (w + 16), .ref (w + 31), .int 0, .null, .null, .null, .null, .null, .null, .null]))).2.1 = w + 46 := e2
  have A2 : WA (am_set g2 w (.inr (0, [.ref (w + 1), .ref (w + 16), .ref (w + 31), .int 0, .null, .null, .null, .null, .null, .null, .null]))) (w + 31) m0F (fun _ => 0) .null := fun i hi => am_set_k (a2 i hi) (by omega)
  clear a2 e2 og2 w2 o2 n2
  generalize am_set g2 w (.inr (0, [.ref (w + 1), .ref (w + 16), .ref (w + 31), .int 0, .null, .null, .null, .null, .null, .null, .null])) = h3 at *
  clear p2 f2 F2
  have w3 := F3.w
  have og3 := og.keep F3 (fun _ z => z.elim)
  refine r_aload_0 rfl ?_
  refine r_new rfl rfl ?_
  refine r_dupR rfl ?_
  refine r_inviF rfl rfl rfl (by decide) (c_x3Init (P := fun _ => False) (ni_new w3 (cs := fun _ => .inl (0, 0, .inl fun _ => 0)))) ?_
  rintro g3 ⟨a3, f3, e3⟩
  rw [n3] at a3 e3
  rw [n3]
  have p3 := f3.k o3 (fun z => z)
  refine r_puta rfl p3 rfl ?_
  show Wp G 3 mt_X1_init _ _ _ (am_set g3 w (.inr (0, [.ref (w + 1), .ref (w + 16), .ref (w + 31), .int 0, .ref (w + 46), .null, .null, .null, .null, .null, .null]))) _
  have F4 : HF (fun _ => False) 48 1534 hb (am_set g3 w (.inr (0, [.ref (w + 1), .ref (w + 16), .ref (w + 31), .int 0, .ref (w + 46), .null, .null, .null, .null, .null, .null]))) := HF.setN ((HF.trans F3 f3).mono (fun _ z => z) (Nat.le_refl _) (Nat.le_refl _)) p3 wb (by omega)
  have T3 : HF (fun z => z = w) 2 407 h3 (am_set g3 w (.inr (0, [.ref (w + 1), .ref (w + 16), .ref (w + 31), .int 0, .ref (w + 46), .null, .null, .null, .null, .null, .null]))) := HF.setP (f3.mono (fun _ z => z.elim) (Nat.le_refl _) (Nat.le_refl _)) p3 rfl
  have o4 : (am_set g3 w (.inr (0, [.ref (w + 1), .ref (w + 16), .ref (w + 31), .int 0, .ref (w + 46), .null, .null, .null, .null, .null, .null]))).1 w = some (.inr (0, [.ref (w + 1), .ref (w + 16), .ref (w + 31), .int 0, .ref (w + 46), .null, .null, .null, .null, .null, .null])) := am_set_at
  have n4 : (am_set g3 w (.inr (0, [.ref (w + 1), .ref (w + 16), .ref (w + 31), .int 0, .ref (w + 46), .null, .null, .null, .null, .null, .null]))).2.1 = w + 48 := e3
  have A3 : RS (am_set g3 w (.inr (0, [.ref (w + 1), .ref (w + 16), .ref (w + 31), .int 0, .ref (w + 46), .null, .null, .null, .null, .null, .null]))) (w + 46) (fun _ => 0) 0 0 0 0 (-1) 0 := ⟨am_set_k a3.1 (by omega), am_set_k a3.2 (by omega)⟩
  clear a3 e3 og3 w3 o3 n3
  generalize am_set g3 w (.inr (0, [.ref (w + 1), .ref (w + 16), .ref (w + 31), .int 0, .ref (w + 46), .null, .null, .null, .null, .null, .null])) = h4 at *
  clear p3 f3 F3
  have w4 := F4.w
  have og4 := og.keep F4 (fun _ z => z.elim)
  refine r_aload_0 rfl ?_
  refine r_new rfl rfl ?_
  refine r_dupR rfl ?_
  refine r_k (nx := 56) (L' := [.ref w]) (rest := [.ref h4.2.1, .ref w]) rfl (am_invi_ok (n := 0) (As := []) rfl rfl) (by decide) c_x4Init (fun R q => ?_)
  subst q
  have f4 : HF (fun _ => False) 1 8 h4 (am_new h4 (.inr (3, [.int 0, .int 0, .int 0, .int 0, .int 0, .int 0, .int 0, .int 0])) 8) := HF.new w4
  have a4 : (am_new h4 (.inr (3, [.int 0, .int 0, .int 0, .int 0, .int 0, .int 0, .int 0, .int 0])) 8).1 (w + 48) = some (.inr (3, sobj fun _ => 0)) := by rw [← n4]; exact am_new_at
  have e4 : (am_new h4 (.inr (3, [.int 0, .int 0, .int 0, .int 0, .int 0, .int 0, .int 0, .int 0])) 8).2.1 = w + 49 := by show h4.2.1 + 1 = _; omega
  show Wp G 3 mt_X1_init 56 [.ref w] [.ref h4.2.1, .ref w] (am_new h4 (.inr (3, [.int 0, .int 0, .int 0, .int 0, .int 0, .int 0, .int 0, .int 0])) 8) _
  rw [n4]
  generalize am_new h4 (.inr (3, [.int 0, .int 0, .int 0, .int 0, .int 0, .int 0, .int 0, .int 0])) 8 = g4 at *
  have p4 := f4.k o4 (fun z => z)
  refine r_puta rfl p4 rfl ?_
  show Wp G 3 mt_X1_init _ _ _ (am_set g4 w (.inr (0, [.ref (w + 1), .ref (w + 16), .ref (w + 31), .int 0, .ref (w + 46), .ref (w + 48), .null, .null, .null, .null, .null]))) _
  have F5 : HF (fun _ => False) 49 1542 hb (am_set g4 w (.inr (0, [.ref (w + 1), .ref (w + 16), .ref (w + 31), .int 0, .ref (w + 46), .ref (w + 48), .null, .null, .null, .null, .null]))) := HF.setN ((HF.trans F4 f4).mono (fun _ z => z) (Nat.le_refl _) (Nat.le_refl _)) p4 wb (by omega)
  have T4 : HF (fun z => z = w) 1 8 h4 (am_set g4 w (.inr (0, [.ref (w + 1), .ref (w + 16), .ref (w + 31), .int 0, .ref (w + 46), .ref (w + 48), .null, .null, .null, .null, .null]))) := HF.setP (f4.mono (fun _ z => z.elim) (Nat.le_refl _) (Nat.le_refl _)) p4 rfl
  have o5 : (am_set g4 w (.inr (0, [.ref (w + 1), .ref (w + 16), .ref (w + 31), .int 0, .ref (w + 46), .ref (w + 48), .null, .null, .null, .null, .null]))).1 w = some (.inr (0, [.ref (w + 1), .ref (w + 16), .ref (w + 31), .int 0, .ref (w + 46), .ref (w + 48), .null, .null, .null, .null, .null])) := am_set_at
  have n5 : (am_set g4 w (.inr (0, [.ref (w + 1), .ref (w + 16), .ref (w + 31), .int 0, .ref (w + 46), .ref (w + 48), .null, .null, .null, .null, .null]))).2.1 = w + 49 := e4
  have A4 : (am_set g4 w (.inr (0, [.ref (w + 1), .ref (w + 16), .ref (w + 31), .int 0, .ref (w + 46), .ref (w + 48), .null, .null, .null, .null, .null]))).1 (w + 48) = some _ := am_set_k a4 (by omega)
  clear a4 e4 og4 w4 o4 n4
  generalize am_set g4 w (.inr (0, [.ref (w + 1), .ref (w + 16), .ref (w + 31), .int 0, .ref (w + 46), .ref (w + 48), .null, .null, .null, .null, .null])) = h5 at *
  clear p4 f4 F4
  have w5 := F5.w
  have og5 := og.keep F5 (fun _ z => z.elim)
  refine r_aload_0 rfl ?_
  refine r_new rfl rfl ?_
  refine r_dupR rfl ?_
  refine r_inviF rfl rfl rfl (by decide) (c_wInit (P := fun _ => False) (ni_new w5 (cs := fun _ => .inl (0, 0, .inl fun _ => 0)))) ?_
  rintro g5 ⟨a5, f5, e5⟩
  rw [n5] at a5 e5
  rw [n5]
  have p5 := f5.k o5 (fun z => z)
  refine r_puta rfl p5 rfl ?_
  show Wp G 3 mt_X1_init _ _ _ (am_set g5 w (.inr (0, [.ref (w + 1), .ref (w + 16), .ref (w + 31), .int 0, .ref (w + 46), .ref (w + 48), .ref (w + 49), .null, .null, .null, .null]))) _
  have F6 : HF (fun _ => False) 64 1914 hb (am_set g5 w (.inr (0, [.ref (w + 1), .ref (w + 16), .ref (w + 31), .int 0, .ref (w + 46), .ref (w + 48), .ref (w + 49), .null, .null, .null, .null]))) := HF.setN ((HF.trans F5 f5).mono (fun _ z => z) (Nat.le_refl _) (Nat.le_refl _)) p5 wb (by omega)
  have T5 : HF (fun z => z = w) 15 372 h5 (am_set g5 w (.inr (0, [.ref (w + 1), .ref (w + 16), .ref (w + 31), .int 0, .ref (w + 46), .ref (w + 48), .ref (w + 49), .null, .null, .null, .null]))) := HF.setP (f5.mono (fun _ z => z.elim) (Nat.le_refl _) (Nat.le_refl _)) p5 rfl
  have o6 : (am_set g5 w (.inr (0, [.ref (w + 1), .ref (w + 16), .ref (w + 31), .int 0, .ref (w + 46), .ref (w + 48), .ref (w + 49), .null, .null, .null, .null]))).1 w = some (.inr (0, [.ref (w + 1), .ref (w + 16), .ref (w + 31), .int 0, .ref (w + 46), .ref (w + 48), .ref (w + 49), .null, .null, .null, .null])) := am_set_at
  have n6 : (am_set g5 w (.inr (0, [.ref (w + 1), .ref (w + 16), .ref (w + 31), .int 0, .ref (w + 46), .ref (w + 48), .ref (w + 49), .null, .null, .null, .null]))).2.1 = w + 64 := e5
  have A5 : WA (am_set g5 w (.inr (0, [.ref (w + 1), .ref (w + 16), .ref (w + 31), .int 0, .ref (w + 46), .ref (w + 48), .ref (w + 49), .null, .null, .null, .null]))) (w + 49) m0F (fun _ => 0) .null := fun i hi => am_set_k (a5 i hi) (by omega)
  clear a5 e5 og5 w5 o5 n5
  generalize am_set g5 w (.inr (0, [.ref (w + 1), .ref (w + 16), .ref (w + 31), .int 0, .ref (w + 46), .ref (w + 48), .ref (w + 49), .null, .null, .null, .null])) = h6 at *
  clear p5 f5 F5
  have w6 := F6.w
  have og6 := og.keep F6 (fun _ z => z.elim)
  refine r_aload_0 rfl ?_
  refine r_new rfl rfl ?_
  refine r_dupR rfl ?_
  refine r_inviF rfl rfl rfl (by decide) (c_newList w6 og6 o6) ?_
  rintro g6 ⟨⟨arr, arr1, a6⟩, -, f6⟩
  have e6 : g6.2.1 = w + 65 := by
    have y := f6.2.2.1
    obtain ⟨mc, t, cap, fq, q1, -⟩ := id a6
    have := f6.w _ _ q1
    omega
  rw [n6] at a6
  rw [n6]
  have p6 := f6.k o6 (fun z => z)
  refine r_puta rfl p6 rfl ?_
  show Wp G 3 mt_X1_init _ _ _ (am_set g6 w (.inr (0, [.ref (w + 1), .ref (w + 16), .ref (w + 31), .int 0, .ref (w + 46), .ref (w + 48), .ref (w + 49), .ref (w + 64), .null, .null, .null]))) _
  have F7 : HF (fun _ => False) 65 1917 hb (am_set g6 w (.inr (0, [.ref (w + 1), .ref (w + 16), .ref (w + 31), .int 0, .ref (w + 46), .ref (w + 48), .ref (w + 49), .ref (w + 64), .null, .null, .null]))) := HF.setN ((HF.trans F6 f6).mono (fun _ z => z) (Nat.le_refl _) (Nat.le_refl _)) p6 wb (by omega)
  have T6 : HF (fun z => z = w) 1 3 h6 (am_set g6 w (.inr (0, [.ref (w + 1), .ref (w + 16), .ref (w + 31), .int 0, .ref (w + 46), .ref (w + 48), .ref (w + 49), .ref (w + 64), .null, .null, .null]))) := HF.setP (f6.mono (fun _ z => z.elim) (Nat.le_refl _) (Nat.le_refl _)) p6 rfl
  have o7 : (am_set g6 w (.inr (0, [.ref (w + 1), .ref (w + 16), .ref (w + 31), .int 0, .ref (w + 46), .ref (w + 48), .ref (w + 49), .ref (w + 64), .null, .null, .null]))).1 w = some (.inr (0, [.ref (w + 1), .ref (w + 16), .ref (w + 31), .int 0, .ref (w + 46), .ref (w + 48), .ref (w + 49), .ref (w + 64), .null, .null, .null])) := am_set_at
  have n7 : (am_set g6 w (.inr (0, [.ref (w + 1), .ref (w + 16), .ref (w + 31), .int 0, .ref (w + 46), .ref (w + 48), .ref (w + 49), .ref (w + 64), .null, .null, .null]))).2.1 = w + 65 := e6
  have A6 : AL G bs (am_set g6 w (.inr (0, [.ref (w + 1), .ref (w + 16), .ref (w + 31), .int 0, .ref (w + 46), .ref (w + 48), .ref (w + 49), .ref (w + 64), .null, .null, .null]))) (w + 64) arr [] := a6.keep (HF.set f6.w p6) (by omega) (fun z => by
    obtain ⟨_, _, _, _, -, y, -⟩ := a6
    rw [show arr = w from z, p6] at y; cases y)
  clear a6 e6 og6 w6 o6 n6
  generalize am_set g6 w (.inr (0, [.ref (w + 1), .ref (w + 16), .ref (w + 31), .int 0, .ref (w + 46), .ref (w + 48), .ref (w + 49), .ref (w + 64), .null, .null, .null])) = h7 at *
  clear p6 f6 F6
  have w7 := F7.w
  have og7 := og.keep F7 (fun _ z => z.elim)
  refine r_aload_0 rfl ?_
  refine r_new rfl rfl ?_
  refine r_dupR rfl ?_
  refine r_aload_0 rfl ?_
  refine r_inviF rfl rfl rfl (by decide) (c_x5Init (P := fun _ => False) (x := w) (ni_new w7 (cs := fun _ => .inl (0, 0, .inl fun _ => 0)))) ?_
  rintro g7 ⟨a7, b7, c7, d7, i7, j7, f7, e7⟩
  rw [n7] at a7 b7 c7 d7 i7 j7 e7
  rw [n7]
  have p7 := f7.k o7 (fun z => z)
  refine r_puta rfl p7 rfl ?_
  show Wp G 3 mt_X1_init _ _ _ (am_set g7 w (.inr (0, [.ref (w + 1), .ref (w + 16), .ref (w + 31), .int 0, .ref (w + 46), .ref (w + 48), .ref (w + 49), .ref (w + 64), .ref (w + 65), .null, .null]))) _
  have F8 : HF (fun _ => False) 71 11153 hb (am_set g7 w (.inr (0, [.ref (w + 1), .ref (w + 16), .ref (w + 31), .int 0, .ref (w + 46), .ref (w + 48), .ref (w + 49), .ref (w + 64), .ref (w + 65), .null, .null]))) := HF.setN ((HF.trans F7 f7).mono (fun _ z => z) (Nat.le_refl _) (Nat.le_refl _)) p7 wb (by omega)
  have T7 : HF (fun z => z = w) 6 9236 h7 (am_set g7 w (.inr (0, [.ref (w + 1), .ref (w + 16), .ref (w + 31), .int 0, .ref (w + 46), .ref (w + 48), .ref (w + 49), .ref (w + 64), .ref (w + 65), .null, .null]))) := HF.setP (f7.mono (fun _ z => z.elim) (Nat.le_refl _) (Nat.le_refl _)) p7 rfl
  have o8 : (am_set g7 w (.inr (0, [.ref (w + 1), .ref (w + 16), .ref (w + 31), .int 0, .ref (w + 46), .ref (w + 48), .ref (w + 49), .ref (w + 64), .ref (w + 65), .null, .null]))).1 w = some (.inr (0, [.ref (w + 1), .ref (w + 16), .ref (w + 31), .int 0, .ref (w + 46), .ref (w + 48), .ref (w + 49), .ref (w + 64), .ref (w + 65), .null, .null])) := am_set_at
  have n8 : (am_set g7 w (.inr (0, [.ref (w + 1), .ref (w + 16), .ref (w + 31), .int 0, .ref (w + 46), .ref (w + 48), .ref (w + 49), .ref (w + 64), .ref (w + 65), .null, .null]))).2.1 = w + 71 := e7
  have A7 : SHB (am_set g7 w (.inr (0, [.ref (w + 1), .ref (w + 16), .ref (w + 31), .int 0, .ref (w + 46), .ref (w + 48), .ref (w + 49), .ref (w + 64), .ref (w + 65), .null, .null]))) w := ⟨0, 0, am_set_k a7 (by omega), ⟨_, am_set_k b7 (by omega)⟩, ⟨_, am_set_k c7 (by omega)⟩, ⟨_, am_set_k d7 (by omega), rfl⟩, ⟨_, am_set_k i7 (by omega)⟩, _, am_set_k j7 (by omega)⟩
  clear a7 b7 c7 d7 i7 j7 e7 og7 w7 o7 n7
  generalize am_set g7 w (.inr (0, [.ref (w + 1), .ref (w + 16), .ref (w + 31), .int 0, .ref (w + 46), .ref (w + 48), .ref (w + 49), .ref (w + 64), .ref (w + 65), .null, .null])) = h8 at *
  clear p7 f7 F7
  have w8 := F8.w
  have og8 := og.keep F8 (fun _ z => z.elim)
  refine r_aload_0 rfl ?_
  refine r_push rfl ?_
  refine r_newi rfl (n := 64) rfl (by decide) ?_
  have f8 : HF (fun _ => False) 1 64 h8 (am_new h8 (.inl (0, 64, .inl fun _ => 0)) 64) := HF.new w8
  have a8 : (am_new h8 (.inl (0, 64, .inl fun _ => 0)) 64).1 (w + 71) = some (.inl (0, 64, .inl fun _ => 0)) := by rw [← n8]; exact am_new_at
  have e8 : (am_new h8 (.inl (0, 64, .inl fun _ => 0)) 64).2.1 = w + 72 := by show h8.2.1 + 1 = _; omega
  rw [n8]
  generalize am_new h8 (.inl (0, 64, .inl fun _ => 0)) 64 = g8 at *
  have p8 := f8.k o8 (fun z => z)
  refine r_puta rfl p8 rfl ?_
  show Wp G 3 mt_X1_init _ _ _ (am_set g8 w (.inr (0, [.ref (w + 1), .ref (w + 16), .ref (w + 31), .int 0, .ref (w + 46), .ref (w + 48), .ref (w + 49), .ref (w + 64), .ref (w + 65), .ref (w + 71), .null]))) _
  have F9 : HF (fun _ => False) 72 11217 hb (am_set g8 w (.inr (0, [.ref (w + 1), .ref (w + 16), .ref (w + 31), .int 0, .ref (w + 46), .ref (w + 48), .ref (w + 49), .ref (w + 64), .ref (w + 65), .ref (w + 71), .null]))) := HF.setN ((HF.trans F8 f8).mono (fun _ z => z) (Nat.le_refl _) (Nat.le_refl _)) p8 wb (by omega)
  have T8 : HF (fun z => z = w) 1 64 h8 (am_set g8 w (.inr (0, [.ref (w + 1), .ref (w + 16), .ref (w + 31), .int 0, .ref (w + 46), .ref (w + 48), .ref (w + 49), .ref (w + 64), .ref (w + 65), .ref (w + 71), .null]))) := HF.setP (f8.mono (fun _ z => z.elim) (Nat.le_refl _) (Nat.le_refl _)) p8 rfl
  have o9 : (am_set g8 w (.inr (0, [.ref (w + 1), .ref (w + 16), .ref (w + 31), .int 0, .ref (w + 46), .ref (w + 48), .ref (w + 49), .ref (w + 64), .ref (w + 65), .ref (w + 71), .null]))).1 w = some (.inr (0, [.ref (w + 1), .ref (w + 16), .ref (w + 31), .int 0, .ref (w + 46), .ref (w + 48), .ref (w + 49), .ref (w + 64), .ref (w + 65), .ref (w + 71), .null])) := am_set_at
  have n9 : (am_set g8 w (.inr (0, [.ref (w + 1), .ref (w + 16), .ref (w + 31), .int 0, .ref (w + 46), .ref (w + 48), .ref (w + 49), .ref (w + 64), .ref (w + 65), .ref (w + 71), .null]))).2.1 = w + 72 := e8
  have A8 : (am_set g8 w (.inr (0, [.ref (w + 1), .ref (w + 16), .ref (w + 31), .int 0, .ref (w + 46), .ref (w + 48), .ref (w + 49), .ref (w + 64), .ref (w + 65), .ref (w + 71), .null]))).1 (w + 71) = some _ := am_set_k a8 (by omega)
  clear a8 e8 og8 w8 o8 n8
  generalize am_set g8 w (.inr (0, [.ref (w + 1), .ref (w + 16), .ref (w + 31), .int 0, .ref (w + 46), .ref (w + 48), .ref (w + 49), .ref (w + 64), .ref (w + 65), .ref (w + 71), .null])) = h9 at *
  clear p8 f8 F8
  have w9 := F9.w
  have og9 := og.keep F9 (fun _ z => z.elim)
  refine r_aload_0 rfl ?_
  refine r_new rfl rfl ?_
  refine r_dupR rfl ?_
  refine r_inviF rfl rfl rfl (by decide) (c_wInit (P := fun _ => False) (ni_new w9 (cs := fun _ => .inl (0, 0, .inl fun _ => 0)))) ?_
  rintro g9 ⟨a9, f9, e9⟩
  rw [n9] at a9 e9
  rw [n9]
  have p9 := f9.k o9 (fun z => z)
  refine r_puta rfl p9 rfl ?_
  show Wp G 3 mt_X1_init _ _ _ (am_set g9 w (.inr (0, [.ref (w + 1), .ref (w + 16), .ref (w + 31), .int 0, .ref (w + 46), .ref (w + 48), .ref (w + 49), .ref (w + 64), .ref (w + 65), .ref (w + 71), .ref (w + 72)]))) _
  have F10 : HF (fun _ => False) 87 11589 hb (am_set g9 w (.inr (0, [.ref (w + 1), .ref (w + 16), .ref (w + 31), .int 0, .ref (w + 46), .ref (w + 48), .ref (w + 49), .ref (w + 64), .ref (w + 65), .ref (w + 71), .ref (w + 72)]))) := HF.setN ((HF.trans F9 f9).mono (fun _ z => z) (Nat.le_refl _) (Nat.le_refl _)) p9 wb (by omega)
  have T9 : HF (fun z => z = w) 15 372 h9 (am_set g9 w (.inr (0, [.ref (w + 1), .ref (w + 16), .ref (w + 31), .int 0, .ref (w + 46), .ref (w + 48), .ref (w + 49), .ref (w + 64), .ref (w + 65), .ref (w + 71), .ref (w + 72)]))) := HF.setP (f9.mono (fun _ z => z.elim) (Nat.le_refl _) (Nat.le_refl _)) p9 rfl
  have o10 : (am_set g9 w (.inr (0, [.ref (w + 1), .ref (w + 16), .ref (w + 31), .int 0, .ref (w + 46), .ref (w + 48), .ref (w + 49), .ref (w + 64), .ref (w + 65), .ref (w + 71), .ref (w + 72)]))).1 w = some (.inr (0, [.ref (w + 1), .ref (w + 16), .ref (w + 31), .int 0, .ref (w + 46), .ref (w + 48), .ref (w + 49), .ref (w + 64), .ref (w + 65), .ref (w + 71), .ref (w + 72)])) := am_set_at
  have n10 : (am_set g9 w (.inr (0, [.ref (w + 1), .ref (w + 16), .ref (w + 31), .int 0, .ref (w + 46), .ref (w + 48), .ref (w + 49), .ref (w + 64), .ref (w + 65), .ref (w + 71), .ref (w + 72)]))).2.1 = w + 87 := e9
  have A9 : WA (am_set g9 w (.inr (0, [.ref (w + 1), .ref (w + 16), .ref (w + 31), .int 0, .ref (w + 46), .ref (w + 48), .ref (w + 49), .ref (w + 64), .ref (w + 65), .ref (w + 71), .ref (w + 72)]))) (w + 72) m0F (fun _ => 0) .null := fun i hi => am_set_k (a9 i hi) (by omega)
  clear a9 e9 og9 w9 o9 n9
  generalize am_set g9 w (.inr (0, [.ref (w + 1), .ref (w + 16), .ref (w + 31), .int 0, .ref (w + 46), .ref (w + 48), .ref (w + 49), .ref (w + 64), .ref (w + 65), .ref (w + 71), .ref (w + 72)])) = h10 at *
  clear p9 f9 F9
  refine r_vret rfl ?_
  have U9 := T9
  have U8 := (HF.trans T8 U9).mono (P' := fun z => z = w) (fun _ z => z) (Nat.le_refl _) (Nat.le_refl _)
  have U7 := (HF.trans T7 U8).mono (P' := fun z => z = w) (fun _ z => z) (Nat.le_refl _) (Nat.le_refl _)
  have U6 := (HF.trans T6 U7).mono (P' := fun z => z = w) (fun _ z => z) (Nat.le_refl _) (Nat.le_refl _)
  have U5 := (HF.trans T5 U6).mono (P' := fun z => z = w) (fun _ z => z) (Nat.le_refl _) (Nat.le_refl _)
  have U4 := (HF.trans T4 U5).mono (P' := fun z => z = w) (fun _ z => z) (Nat.le_refl _) (Nat.le_refl _)
  have U3 := (HF.trans T3 U4).mono (P' := fun z => z = w) (fun _ z => z) (Nat.le_refl _) (Nat.le_refl _)
  have U2 := (HF.trans T2 U3).mono (P' := fun z => z = w) (fun _ z => z) (Nat.le_refl _) (Nat.le_refl _)
  have U1 := (HF.trans T1 U2).mono (P' := fun z => z = w) (fun _ z => z) (Nat.le_refl _) (Nat.le_refl _)
  refine ⟨_, rfl, n10, o10, A0.keep U1 (fun a z => by omega), A1.keep U2 (fun a z => by omega), A2.keep U3 (fun a z => by omega), A3.keep U4 (by omega) (by omega), U5.k A4 (by omega), A5.keep U6 (fun a z => by omega), ⟨arr, arr1, A6.keep U7 (by omega) (fun z => ?_)⟩, A7.keep U8 (fun a z => by omega), ⟨_, U9.k A8 (by omega)⟩, A9, F10.mono (fun _ z => z) (by omega) (by omega)⟩
  have : arr = w := z
  omega
end
