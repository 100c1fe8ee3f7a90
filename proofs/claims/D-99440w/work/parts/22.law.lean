/-! LAW.sum; the constructors of the law's objects -/
set_option maxRecDepth 100000
theorem lsum_app (k : Nat) (F : Fc) : ∀ (l r : List Ln), lsumF k F (l ++ r) = lsumF k F l + lsumF k F r
  | [], r => (Int32.zero_add _).symm
  | x :: l, r => by rw [List.cons_append, lsumF, lsumF, lsum_app k F l r, Int32.add_assoc]
theorem lsum_one (k : Nat) (F : Fc) (l : List Ln) (x : Ln) : lsumF k F (l ++ [x]) = lsumF k F l + (if x.1 = k ∧ x.2.2 F = true then x.2.1 else 0) := by
  rw [lsum_app, lsumF, lsumF, Int32.add_zero]
section
variable {h : am_H} {G : am_G} {bs sc : Nat} {S : Nat → Prop} {F : Fc}
theorem KD.ne (q : KD G bs h) {i j a b : Nat} (hi : i < 3) (hj : j < 3) (ha : G (gk i) = .ref a) (hb : G (gk j) = .ref b) (z : i ≠ j) : a ≠ b := by
  obtain ⟨_, _, kd, -, -, -, q1, q2⟩ := q
  have e1 := (q2 i hi).2.1
  have e2 := (q2 j hj).2.1
  rw [ha] at e1
  rw [hb] at e2
  cases e1
  cases e2
  exact fun y => z (q1 _ _ hi hj y)
theorem c_lawSum (kd0 : KD G bs h) (q : SC h sc F) {a k kd : Nat} {ls : List Ln} (p : LwA G bs h S a ls) (hk : k < 3) (hkd : G (gk k) = .ref kd) : Vc G 40 m_X8_sum [.ref a, .ref kd, .ref sc] h (.int (lsumF k F ls)) := by
  obtain ⟨p0, la, xs, p1, p2, p3, p4⟩ := p
  obtain ⟨fs, arr, ol, al, hl⟩ := p2.al
  refine wc_in mt_X8_sum rfl (L := [.ref a, .ref kd, .ref sc, am_un, am_un, am_un]) rfl ?_
  refine r_push rfl ?_
  refine r_istore_3 rfl ?_
  refine r_push rfl ?_
  refine r_istore_4 rfl ?_
  have key := wp_forH (G := G) (d := 40) (M := mt_X8_sum) (pc := 5) (Q := fun R => R = .inl (some (.int (lsumF k F ls)), h)) xs.length (fun j L h1 => (∃ x, L = [.ref a, .ref kd, .ref sc, .int (lsumF k F (ls.take j)), .int (nI j), x]) ∧ h1 = h) ?_ ?_
  · exact key _ _ ⟨⟨am_un, rfl⟩, rfl⟩
  · rintro j L h1 hj ⟨⟨x, rfl⟩, rfl⟩ kont
    have hj2 : j < ls.length := by omega
    obtain ⟨l0, kd', v, e1, e2, e3, e4⟩ := p4 j hj hj2
    have et : ls.take (j + 1) = ls.take j ++ [ls[j]] := List.take_succ_eq_append_getElem hj2
    have go : ∀ x : Value, Wp G 40 mt_X8_sum 5 [.ref a, .ref kd, .ref sc, .int (lsumF k F (ls.take j) + (if ls[j].1 = k ∧ ls[j].2.2 F = true then ls[j].2.1 else 0)), .int (nI (j + 1)), x] [] h1 (fun R => R = .inl (some (.int (lsumF k F ls)), h1)) := fun x => kont _ _ ⟨⟨x, by rw [et, lsum_one]⟩, rfl⟩
    refine r_iload_4 rfl ?_
    refine r_aload_0 rfl ?_
    refine r_getf rfl (by assumption) (by rfl) ?_
    refine r_invvP_0 rfl (by assumption) rfl rfl (by decide) (c_alSize al) ?_
    refine r_icgeF rfl (nI_lt hj (by omega)) ?_
    refine r_aload_0 rfl ?_
    refine r_getf rfl (by assumption) (by rfl) ?_
    refine r_iload_4 rfl ?_
    refine r_invvP_1 rfl (by assumption) rfl rfl (by decide) (c_alGet al hj) ?_
    refine r_cast rfl (by assumption) rfl ?_
    refine r_astore_5 rfl ?_
    refine r_aload_5 rfl ?_
    refine r_getf rfl (e3) (by rfl) ?_
    refine r_aload_1 rfl ?_
    by_cases z : ls[j].1 = k
    · have ek : kd' = kd := by rw [z, hkd] at e1; cases e1; rfl
      subst ek
      refine r_acneF rfl (am_same_y _) ?_
      refine r_aload_5 rfl ?_
      refine r_getf rfl e3 rfl ?_
      rcases e4 with ⟨rfl, ev⟩ | ⟨c, rfl, ev⟩
      · refine r_ifnullT rfl ?_
        have gg := go (.ref xs[j])
        rw [if_pos ⟨z, ev F⟩] at gg
        refine r_iload_3 rfl ?_
        refine r_aload_5 rfl ?_
        refine r_getf rfl e3 rfl ?_
        refine r_iadd rfl ?_
        refine r_istore_3 rfl ?_
        refine r_iinc_4 rfl ?_
        refine r_goto rfl ?_
        rw [nI_1]
        exact gg
      · obtain ⟨cl, fs1, k1, o1, i1, d1, c1⟩ := c_holds q 30 ev
        refine r_ifnullF rfl ?_
        refine r_aload_5 rfl ?_
        refine r_getf rfl e3 rfl ?_
        refine r_aload_2 rfl ?_
        refine r_invvP_1 rfl o1 d1 rfl (by decide) c1 ?_
        have gg := go (.ref xs[j])
        refine r_ifeq rfl (fun c9 => ?_) (fun c9 => ?_)
        · rw [if_neg (fun y => by rw [bI_0.mp c9] at y; exact absurd y.2 (by decide)), Int32.add_zero] at gg
          refine r_iinc_4 rfl ?_
          refine r_goto rfl ?_
          rw [nI_1]
          exact gg
        · rw [if_pos ⟨z, bI_n0.mp c9⟩] at gg
          refine r_iload_3 rfl ?_
          refine r_aload_5 rfl ?_
          refine r_getf rfl e3 rfl ?_
          refine r_iadd rfl ?_
          refine r_istore_3 rfl ?_
          refine r_iinc_4 rfl ?_
          refine r_goto rfl ?_
          rw [nI_1]
          exact gg
    · refine r_acneT rfl (am_same_n (kd0.ne e2 hk e1 hkd z)) ?_
      have gg := go (.ref xs[j])
      rw [if_neg (fun y => z y.1), Int32.add_zero] at gg
      refine r_iinc_4 rfl ?_
      refine r_goto rfl ?_
      rw [nI_1]
      exact gg
  · rintro L h1 ⟨⟨x, rfl⟩, rfl⟩
    rw [List.take_of_length_le (by omega)]
    refine r_iload_4 rfl ?_
    refine r_aload_0 rfl ?_
    refine r_getf rfl (by assumption) (by rfl) ?_
    refine r_invvP_0 rfl (by assumption) rfl rfl (by decide) (c_alSize al) ?_
    refine r_icgeT rfl (Int32.le_refl _) ?_
    refine r_iload_3 rfl ?_
    refine r_iret rfl ?_
    rfl
end
/-! constructors -/
section
variable {h : am_H} {G : am_G} {bs a : Nat}
theorem c_partInit {n : Int32} {v v1 v2 : Value} (o : h.1 a = some (.inr (14, [v1, v2]))) (hv : v = .null ∨ ∃ b, v = .ref b) : En G 0 m_X15_init [.ref a, .int n, v] h (fun h' => h' = am_set h a (.inr (14, [.int n, v]))) := by
  rcases hv with rfl | ⟨b, rfl⟩
  · refine wc_in mt_X15_init rfl (L := [.ref a, .int n, .null]) rfl ?_
    refine r_aload_0 rfl ?_
    refine r_oinit rfl rfl ?_
    refine r_aload_0 rfl ?_
    refine r_iload_1 rfl ?_
    refine r_puti rfl (o) rfl ?_
    refine r_aload_0 rfl ?_
    refine r_aloadN_2 rfl ?_
    refine r_putaN rfl (am_set_at) rfl ?_
    refine r_vret rfl ?_
    exact ⟨_, rfl, am_set_set⟩
  · refine wc_in mt_X15_init rfl (L := [.ref a, .int n, .ref b]) rfl ?_
    refine r_aload_0 rfl ?_
    refine r_oinit rfl rfl ?_
    refine r_aload_0 rfl ?_
    refine r_iload_1 rfl ?_
    refine r_puti rfl (o) rfl ?_
    refine r_aload_0 rfl ?_
    refine r_aload_2 rfl ?_
    refine r_puta rfl (am_set_at) rfl ?_
    refine r_vret rfl ?_
    exact ⟨_, rfl, am_set_set⟩
theorem c_lessInit {x y : Nat} {v1 v2 : Value} (o : h.1 a = some (.inr (15, [v1, v2]))) : En G 0 m_X17_init [.ref a, .ref x, .ref y] h (fun h' => h' = am_set h a (.inr (15, [.ref x, .ref y]))) := by
  refine wc_in mt_X17_init rfl (L := [.ref a, .ref x, .ref y]) rfl ?_
  refine r_aload_0 rfl ?_
  refine r_oinit rfl rfl ?_
  refine r_aload_0 rfl ?_
  refine r_aload_1 rfl ?_
  refine r_puta rfl (o) rfl ?_
  refine r_aload_0 rfl ?_
  refine r_aload_2 rfl ?_
  refine r_puta rfl (am_set_at) rfl ?_
  refine r_vret rfl ?_
  exact ⟨_, rfl, am_set_set⟩
theorem c_notInit {x : Nat} {v1 : Value} (o : h.1 a = some (.inr (11, [v1]))) : En G 0 m_X12_init [.ref a, .ref x] h (fun h' => h' = am_set h a (.inr (11, [.ref x]))) := by
  refine wc_in mt_X12_init rfl (L := [.ref a, .ref x]) rfl ?_
  refine r_aload_0 rfl ?_
  refine r_oinit rfl rfl ?_
  refine r_aload_0 rfl ?_
  refine r_aload_1 rfl ?_
  refine r_puta rfl (o) rfl ?_
  refine r_vret rfl ?_
  exact ⟨_, rfl, rfl⟩
theorem c_tagInit {b : Bool} {v1 : Value} (o : h.1 a = some (.inr (12, [v1]))) : En G 0 m_X13_init [.ref a, .int (bI b)] h (fun h' => h' = am_set h a (.inr (12, [.int (bI b)]))) := by
  refine wc_in mt_X13_init rfl (L := [.ref a, .int (bI b)]) rfl ?_
  refine r_aload_0 rfl ?_
  refine r_oinit rfl rfl ?_
  refine r_aload_0 rfl ?_
  refine r_iload_1 rfl ?_
  refine r_putz rfl (o) (bI_01 b) rfl ?_
  refine r_vret rfl ?_
  exact ⟨_, rfl, rfl⟩
theorem c_lineInit {k : Nat} {n : Int32} {v v1 v2 v3 : Value} (o : h.1 a = some (.inr (9, [v1, v2, v3]))) (hv : v = .null ∨ ∃ b, v = .ref b) : En G 0 m_X10_init [.ref a, .ref k, .int n, v] h (fun h' => h' = am_set h a (.inr (9, [.ref k, .int n, v]))) := by
  rcases hv with rfl | ⟨b, rfl⟩
  · refine wc_in mt_X10_init rfl (L := [.ref a, .ref k, .int n, .null]) rfl ?_
    refine r_aload_0 rfl ?_
    refine r_oinit rfl rfl ?_
    refine r_aload_0 rfl ?_
    refine r_aload_1 rfl ?_
    refine r_puta rfl (o) rfl ?_
    refine r_aload_0 rfl ?_
    refine r_iload_2 rfl ?_
    refine r_puti rfl (am_set_at) rfl ?_
    refine r_aload_0 rfl ?_
    refine r_aloadN_3 rfl ?_
    refine r_putaN rfl (am_set_at) rfl ?_
    refine r_vret rfl ?_
    simp only [am_set_set]; exact ⟨_, rfl, rfl⟩
  · refine wc_in mt_X10_init rfl (L := [.ref a, .ref k, .int n, .ref b]) rfl ?_
    refine r_aload_0 rfl ?_
    refine r_oinit rfl rfl ?_
    refine r_aload_0 rfl ?_
    refine r_aload_1 rfl ?_
    refine r_puta rfl (o) rfl ?_
    refine r_aload_0 rfl ?_
    refine r_iload_2 rfl ?_
    refine r_puti rfl (am_set_at) rfl ?_
    refine r_aload_0 rfl ?_
    refine r_aload_3 rfl ?_
    refine r_puta rfl (am_set_at) rfl ?_
    refine r_vret rfl ?_
    simp only [am_set_set]; exact ⟨_, rfl, rfl⟩
/-- a new list, in a field of an object that is new -/
theorem c_newList (w : HW h) (og : OG G bs h) {e : am_C} (o : h.1 a = some e) : En G 2 m_J2_init [.ref h.2.1] (am_new h (.inr (4, [.int 0, .null, .int 0])) 3) (fun h' => (∃ arr, arr < bs ∧ AL G bs h' h.2.1 arr []) ∧ h'.1 a = some e ∧ HF (fun _ => False) 1 3 h h') := by
  have F1 := HF.new (n := 3) (e := .inr (4, [.int 0, .null, .int 0])) w
  have og1 := og.keep F1 (fun _ z => z.elim)
  refine wc_mono (fun R q => ?_) (c_alInit F1.w og1 am_new_at)
  obtain ⟨h', rfl, q1, q2⟩ := q
  refine ⟨h', rfl, q1, q2.k (am_new_k w o) (Nat.ne_of_lt (w _ _ o)), ?_⟩
  exact (HF.transN w F1 (q2.mono (P' := fun x => x = h.2.1) (fun _ z => z) (Nat.le_refl _) (Nat.le_refl _)) (fun x z => Or.inr (Nat.le_of_eq z.symm)))
theorem c_lawInit (w : HW h) (og : OG G bs h) {v : Value} (o : h.1 a = some (.inr (8, [v]))) : En G 3 m_X8_init [.ref a] h (fun h' => h'.1 a = some (.inr (8, [.ref h.2.1])) ∧ (∃ arr, arr < bs ∧ AL G bs h' h.2.1 arr []) ∧ HF (fun x => x = a) 1 3 h h') := by
  have hne : h.2.1 ≠ a := Nat.ne_of_gt (w _ _ o)
  refine wc_in mt_X8_init rfl (L := [.ref a]) rfl ?_
  refine r_aload_0 rfl ?_
  refine r_oinit rfl rfl ?_
  refine r_aload_0 rfl ?_
  refine r_new rfl rfl ?_
  refine r_dupR rfl ?_
  refine r_inviF rfl rfl rfl (by decide) (c_newList w og o) ?_
  rintro h' ⟨⟨arr, z1, q1⟩, q2, q3⟩
  refine r_puta rfl (by assumption) rfl ?_
  refine r_vret rfl ?_
  refine ⟨_, rfl, am_set_at, ⟨arr, z1, ?_⟩, HF.setP (P := fun x => x = a) (q3.mono (fun _ z => z.elim) (Nat.le_refl _) (Nat.le_refl _)) q2 rfl⟩
  have hw := q3.w
  exact q1.keep (HF.set hw q2) hne (fun z => by obtain ⟨_, _, _, _, -, y, -⟩ := q1; rw [show arr = a from z, q2] at y; cases y)
theorem c_sumInit (w : HW h) (og : OG G bs h) {v : Value} (o : h.1 a = some (.inr (13, [v]))) : En G 3 m_X14_init [.ref a] h (fun h' => h'.1 a = some (.inr (13, [.ref h.2.1])) ∧ (∃ arr, arr < bs ∧ AL G bs h' h.2.1 arr []) ∧ HF (fun x => x = a) 1 3 h h') := by
  have hne : h.2.1 ≠ a := Nat.ne_of_gt (w _ _ o)
  refine wc_in mt_X14_init rfl (L := [.ref a]) rfl ?_
  refine r_aload_0 rfl ?_
  refine r_oinit rfl rfl ?_
  refine r_aload_0 rfl ?_
  refine r_new rfl rfl ?_
  refine r_dupR rfl ?_
  refine r_inviF rfl rfl rfl (by decide) (c_newList w og o) ?_
  rintro h' ⟨⟨arr, z1, q1⟩, q2, q3⟩
  refine r_puta rfl (by assumption) rfl ?_
  refine r_vret rfl ?_
  refine ⟨_, rfl, am_set_at, ⟨arr, z1, ?_⟩, HF.setP (P := fun x => x = a) (q3.mono (fun _ z => z.elim) (Nat.le_refl _) (Nat.le_refl _)) q2 rfl⟩
  have hw := q3.w
  exact q1.keep (HF.set hw q2) hne (fun z => by obtain ⟨_, _, _, _, -, y, -⟩ := q1; rw [show arr = a from z, q2] at y; cases y)
theorem c_rowInit (w : HW h) (og : OG G bs h) {b : Bool} {v v1 : Value} (o : h.1 a = some (.inr (10, [v1, v]))) : En G 3 m_X11_init [.ref a, .int (bI b)] h (fun h' => h'.1 a = some (.inr (10, [.int (bI b), .ref h.2.1])) ∧ (∃ arr, arr < bs ∧ AL G bs h' h.2.1 arr []) ∧ HF (fun x => x = a) 1 3 h h') := by
  have hne : h.2.1 ≠ a := Nat.ne_of_gt (w _ _ o)
  refine wc_in mt_X11_init rfl (L := [.ref a, .int (bI b)]) rfl ?_
  refine r_aload_0 rfl ?_
  refine r_oinit rfl rfl ?_
  refine r_aload_0 rfl ?_
  refine r_new rfl rfl ?_
  refine r_dupR rfl ?_
  refine r_inviF rfl rfl rfl (by decide) (c_newList w og o) ?_
  rintro h' ⟨⟨arr, z1, q1⟩, q2, q3⟩
  refine r_puta rfl (by assumption) rfl ?_
  refine r_aload_0 rfl ?_
  refine r_iload_1 rfl ?_
  refine r_putz rfl (am_set_at) (bI_01 b) rfl ?_
  refine r_vret rfl ?_
  rw [am_set_set]
  refine ⟨_, rfl, am_set_at, ⟨arr, z1, ?_⟩, HF.setP (P := fun x => x = a) (q3.mono (fun _ z => z.elim) (Nat.le_refl _) (Nat.le_refl _)) q2 rfl⟩
  have hw := q3.w
  exact q1.keep (HF.set hw q2) hne (fun z => by obtain ⟨_, _, _, _, -, y, -⟩ := q1; rw [show arr = a from z, q2] at y; cases y)
end
