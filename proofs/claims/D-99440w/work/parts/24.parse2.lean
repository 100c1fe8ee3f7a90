/-! PARSE: parts and sums -/
set_option maxRecDepth 100000
/-- the system's object at x -/
def xobj (x : Nat) (hi : Bool) : List Value := [.ref (x + 1), .ref (x + 16), .ref (x + 31), .int (bI hi), .ref (x + 46), .ref (x + 48), .ref (x + 49), .ref (x + 64), .ref (x + 65), .ref (x + 71), .ref (x + 72)]
/-- old cells, and those that were made between -/
def Sv (bs lo hi : Nat) : Nat → Prop := fun z => z < bs ∨ (lo ≤ z ∧ z < hi)
theorem HF.sk {P S : Nat → Prop} {c s : Nat} {h h' : am_H} (f : HF P c s h h') (hp : ∀ a, S a → ¬ P a) : SK S h h' := fun a e q z => f.k z (hp a q)
section
variable {T f : Nat → Int32} {e len x bs : Nat} {at_ bg ft dp : Int32} {hi : Bool} {h h0 : am_H} {G : am_G}
theorem FT.mono {r q n m : Nat} {h' : am_H} {c c9 s9 : Nat} (p : FT f r len e ft q n h c h') (g : HF (isR r) c9 s9 h0 h) (h1 : c9 + 10 * n ≤ 10 * m) (h2 : s9 + 1600 * n ≤ 1600 * m) : FT f r len e ft q m h0 c h' := ⟨p.1, p.2.1, (HF.trans g p.2.2).mono (fun _ z => z) h1 h2⟩
theorem num_lt {lo hi v : Int32} {a k : Nat} (z : numF T e lo hi a = .inr (v, k)) : a + 1 ≤ k := by
  unfold numF nbF at z
  have hs := sk_ge T e a
  have hg : skF T e a ≤ fgF T e (skF T e a) := scan_ge _
  split at z
  · cases z
  · rename_i hn
    cases z
    have : fgF T e (skF T e a) ≠ skF T e a := fun y => hn (Or.inl (Or.inl y))
    omega
theorem wd_len {a : Nat} {w : List Int32} (z : wdF T e a w = true) : wbF T e a = skF T e a + w.length := by
  have h1 := congrArg List.length (of_decide_eq_true z)
  rw [subF_len] at h1
  have := wb_ge T e a
  unfold wbF at *
  omega
theorem fact_len {a k : Nat} (z : factF T e a = some k) : a + 3 ≤ wbF T e a := by
  have hs := sk_ge T e a
  have key : ∀ w : List Int32, wdF T e a w = true → 3 ≤ w.length → a + 3 ≤ wbF T e a := fun w h1 h2 => by rw [wd_len h1]; omega
  unfold factF at z
  split at z
  · rename_i q; exact key _ q (by decide)
  · split at z
    · rename_i q; exact key _ q (by decide)
    · split at z
      · rename_i q; exact key _ q (by decide)
      · split at z
        · rename_i q; exact key _ q (by decide)
        · split at z
          · rename_i q; exact key _ q (by decide)
          · split at z
            · rename_i q; exact key _ q (by decide)
            · split at z
              · rename_i q; exact key _ q (by decide)
              · cases z
theorem sk_idem (T : Nat → Int32) (e a : Nat) : skF T e (skF T e a) = skF T e a := scan_idem
theorem num_sk {lo hi : Int32} {a : Nat} : numF T e lo hi (skF T e a) = numF T e lo hi a := by unfold numF; rw [sk_idem]
theorem wd_sk {a : Nat} {w : List Int32} : wdF T e (skF T e a) w = wdF T e a w := by unfold wdF; rw [sk_idem]
theorem wb_sk {a : Nat} : wbF T e (skF T e a) = wbF T e a := by unfold wbF; rw [sk_idem]
theorem fact_sk {a : Nat} : factF T e (skF T e a) = factF T e a := by unfold factF; simp only [wd_sk]
theorem c_onePart (w : HW h) (og : OG G bs h) (hbs : bs ≤ x) (hx : h.1 x = some (.inr (0, xobj x hi))) (t : TX T f e) {a : Nat} (q : RS h (x + 46) f len e (nI a) bg ft dp) (ha : a ≤ e) : Et G 10 m_X1_onePart [.ref x] h
    (fun v h' => ∃ p tm a', partF T e a = .inr (tm, a') ∧ v = .ref p ∧ PtA h' (Sv bs h.2.1 h'.2.1) p tm ∧ h.2.1 ≤ p ∧ (∃ fs, h'.1 p = some (.inr (14, fs))) ∧ a + 1 ≤ a' ∧ a' ≤ e ∧ (∃ bg, RS h' (x + 46) f len e (nI a') bg ft dp) ∧ HF (isR (x + 46)) (10 * (a' - a) - 4) (1600 * (a' - a) - 700) h h')
    (fun c h' => ∃ z, partF T e a = .inl z ∧ FT f (x + 46) len e ft z 2 h c h') := by
  have o := q.1
  have he := t.1
  have hs := sk_le T ha
  have hsg := sk_ge T e a
  have gt := og.gt
  refine wc_in mt_X1_onePart rfl (L := [.ref x, am_un]) rfl ?_
  refine r_aload_0 rfl ?_
  refine r_getf rfl hx rfl ?_
  refine r_invvE rfl rfl o rfl rfl (by decide) (c_isFigure w t q ha) ?_
  rintro v h1 ⟨rfl, q1, f1⟩
  have hx1 := f1.k hx (fun z => by simp only [isR] at z; omega)
  have w1 := f1.w
  have og1 := og.keep f1 (fun z y => by simp only [isR] at y; omega)
  refine r_ifeq rfl (fun c => ?_) (fun c => ?_)
  · have c0 : isFgF T e a = false := bI_0.mp c
    have ep : partF T e a = facP T e a (factF T e a) := by unfold partF; rw [if_neg (by rw [c0]; decide)]
    refine r_aload_0 rfl ?_
    refine r_getf rfl hx1 rfl ?_
    refine r_invvE rfl rfl q1.1 rfl rfl (by decide) (c_word w1 t q1 hs) ?_
    rintro v h2 ⟨s, rfl, hs2, hS, q2, f2⟩
    rw [sk_idem, wb_sk] at *
    have hx2 := f2.k hx1 (fun z => by simp only [isR] at z; omega)
    have og2 := og1.keep f2 (fun z y => by simp only [isR] at y; omega)
    refine r_invE rfl rfl rfl (by decide) (c_factOf f2.w og2 hS.sa) ?_
    rintro v h3 ⟨f3, ⟨e3, rfl⟩ | ⟨k, b, e3, hk, rfl, hb, vv, ob⟩⟩
    · have q3 := q2.keep f3 (fun z => z) (fun z => z)
      have hx3 := f3.k hx2 (fun z => z)
      rw [← factF_W] at e3
      rw [e3] at ep
      refine r_astoreN_1 rfl ?_
      refine r_aloadN_1 rfl ?_
      refine r_ifnonnullF rfl ?_
      refine r_aload_0 rfl ?_
      refine r_getf rfl hx3 rfl ?_
      refine r_invvE rfl rfl q3.1 rfl rfl (by decide) (c_wrong (P := fun _ => False) gt f3.w) ?_
      rintro v h4 ⟨rfl, ⟨fs, o4⟩, f4⟩
      refine r_athrow rfl o4 rfl rfl ?_
      refine Or.inr ⟨_, _, rfl, _, ep, rfl, ⟨_, _, q3.keep f4 (fun z => z) (fun z => z)⟩, ?_⟩
      exact (HF.trans (HF.trans (HF.trans f1 f2) (f3.mono (fun _ z => z.elim) (Nat.le_refl _) (Nat.le_refl _))) (f4.mono (fun _ z => z.elim) (Nat.le_refl _) (Nat.le_refl _))).mono (fun _ z => z) (by decide) (by decide)
    · have q3 := q2.keep f3 (fun z => z) (fun z => z)
      rw [← factF_W] at e3
      rw [e3] at ep
      have hl := fact_len e3
      have w3 := f3.w
      have f0 : HF (isR (x + 46)) 11 1607 h h3 := (HF.trans (HF.trans f1 f2) (f3.mono (fun _ z => z.elim) (Nat.le_refl _) (Nat.le_refl _))).mono (fun _ z => z) (by decide) (by decide)
      have f4 := HF.new (n := 2) (e := .inr (14, [.int 0, .null])) w3
      refine r_astore_1 rfl ?_
      refine r_aload_1 rfl ?_
      refine r_ifnonnullT rfl ?_
      refine r_new rfl rfl ?_
      refine r_dupR rfl ?_
      refine r_push rfl ?_
      refine r_aload_1 rfl ?_
      refine r_inviF rfl rfl rfl (by decide) (c_partInit am_new_at (Or.inr ⟨_, rfl⟩)) ?_
      rintro h5 rfl
      have ob3 := f3.k ob (fun z => z)
      have hbz : b ≠ h3.2.1 := Nat.ne_of_lt (w3 _ _ ob3)
      have f5 : HF (isR (x + 46)) 12 1609 h (am_set (am_new h3 (.inr (14, [.int 0, .null])) 2) h3.2.1 (.inr (14, [.int 0, .ref b]))) := HF.setN ((HF.newN f0).mono (fun _ z => z) (by decide) (by decide)) am_new_at w f0.z
      refine r_aret rfl ?_
      refine Or.inl ⟨_, _, rfl, h3.2.1, _, _, ep, rfl, ⟨Or.inr ⟨f0.z, Nat.lt_succ_self _⟩, Or.inr ⟨k, b, vv, hk, Or.inl hb, am_set_at, am_set_k (am_new_k w3 ob3) hbz, fun _ => rfl⟩⟩, f0.z, ⟨_, am_set_at⟩, by omega, wb_le T ha, ?_, f5.mono (fun _ z => z) (by omega) (by omega)⟩
      have n1 : x + 46 ≠ h3.2.1 := Nat.ne_of_lt (w3 _ _ q3.1)
      have n2 : x + 46 + 1 ≠ h3.2.1 := Nat.ne_of_lt (w3 _ _ q3.2)
      exact ⟨_, am_set_k (am_new_k w3 q3.1) n1, am_set_k (am_new_k w3 q3.2) n2⟩
  · have c0 : isFgF T e a = true := bI_n0.mp c
    have ep : partF T e a = rB (numF T e 0 999 a) fun v a => .inr (fun _ => v, a) := by unfold partF; rw [if_pos c0]
    have f2 := HF.new (n := 2) (e := .inr (14, [.int 0, .null])) w1
    have f02 : HF (isR (x + 46)) 1 2 h (am_new h1 (.inr (14, [.int 0, .null])) 2) := (HF.newN f1).mono (fun _ z => z) (by decide) (by decide)
    have q2 := q1.keep f2 (fun z => z) (fun z => z)
    have hx2 := f2.k hx1 (fun z => z)
    refine r_new rfl rfl ?_
    refine r_dupR rfl ?_
    refine r_aload_0 rfl ?_
    refine r_getf rfl hx2 rfl ?_
    refine r_push rfl ?_
    refine r_push rfl ?_
    refine r_invvT rfl rfl q2.1 rfl rfl rfl (by decide) (c_number gt f2.w t q2 hs) ?_ ?_
    · rintro v h3 ⟨n, k, en, rfl, hk, q3, f3⟩
      rw [num_sk] at en
      have hl := num_lt en
      have op : h3.1 h1.2.1 = some (.inr (14, [.int 0, .null])) := f3.k am_new_at (fun z => by have := w1 _ _ q1.1; simp only [isR] at z; omega)
      refine r_push rfl ?_
      refine r_inviF rfl rfl rfl (by decide) (c_partInit op (Or.inl rfl)) ?_
      rintro h5 rfl
      have f03 : HF (isR (x + 46)) 1 2 h h3 := (HF.trans f02 f3).mono (fun _ z => z) (by decide) (by decide)
      refine r_aret rfl ?_
      rw [en] at ep
      have n1 : x + 46 ≠ h1.2.1 := Nat.ne_of_lt (w1 _ _ q1.1)
      have n2 : x + 46 + 1 ≠ h1.2.1 := Nat.ne_of_lt (w1 _ _ q1.2)
      have z3 := f3.z
      have z2 : h1.2.1 < (am_new h1 (.inr (14, [.int 0, .null])) 2).2.1 := Nat.lt_succ_self _
      refine Or.inl ⟨_, _, rfl, h1.2.1, _, _, ep, rfl, ⟨Or.inr ⟨f1.z, Nat.lt_of_lt_of_le z2 z3⟩, Or.inl ⟨n, am_set_at, fun _ => rfl⟩⟩, f1.z, ⟨_, am_set_at⟩, by omega, hk, ⟨_, am_set_k q3.1 n1, am_set_k q3.2 n2⟩, (HF.setN f03 op w f1.z).mono (fun _ z => z) (by omega) (by omega)⟩
    · rintro c9 h3 ⟨en, p3⟩
      rw [num_sk, sk_idem] at en
      rw [en] at ep
      rw [sk_idem] at p3
      exact Or.inr ⟨_, _, rfl, _, ep, p3.mono f02 (by decide) (by decide)⟩
end
