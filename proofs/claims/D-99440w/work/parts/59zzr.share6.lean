/-! SHARE: the system answers -/
set_option maxRecDepth 100000
section
variable {G : am_G} {h : am_H} {x y : Nat} {hi : Bool} {m b g : Nat → Int32} {l : Value}
theorem c_xShare (w : HW h) (hx : h.1 x = some (.inr (0, xobj x hi))) (wa : WA h (x + 1) m b l) (v : VR m) (yb : BY b m) (sh : SHB h x) (p k : Int32) : Et G 4 m_X1_share [.ref x, .int p, .int k] h (fun v1 h' => (qShare m p k).1 = 0 ∧ v1 = .int (qShare m p k).2 ∧ SHB h' x ∧ HF (SQ x) 0 0 h h') (QX h (qShare m p k) (k1 20)) := by
  obtain ⟨pe, st, o, oe, ow, os, ol, og⟩ := sh
  have hP := v.pp
  refine wc_in mt_X1_share rfl (L := [.ref x, .int p, .int k]) rfl ?_
  refine r_iload_1 rfl ?_
  unfold qShare
  cases e1 : inF p 0 11 with
  | false =>
    rw [if_pos rfl]
    refine r_invX rfl rfl rfl rfl (by decide) (c_placeAtF e1) ?_
    exact Or.inr ⟨_, _, rfl, by decide, rfl, rfl⟩
  | true =>
    rw [if_neg (by decide)]
    refine r_invO rfl rfl rfl (by decide) (c_placeAtT e1) ?_
    obtain ⟨q, hq, rfl⟩ := inF_nI (n := 12) (by decide) e1
    rw [nI_clamp (show q < 2 ^ 31 by omega)]
    refine r_aload_0 rfl ?_
    refine r_getf rfl hx rfl ?_
    refine r_iload_1 rfl ?_
    refine r_invvE rfl rfl o rfl rfl (by decide) (c_x5is (q := q) w hx wa v yb o oe ow os) ?_
    rintro r h1 ⟨rfl, o1, ⟨fe, oe1, ee⟩, ⟨fw, ow1, hw⟩, ⟨fs, os1, fs0, hS⟩, F0⟩
    have F : HF (SQ x) 0 0 h h1 := F0.mono (fun a z => by unfold SQ4 at z; unfold SQ; omega) (Nat.le_refl _) (Nat.le_refl _)
    have hS1 := stF_lt v (q := q) (nP m)
    have hc := cntB_n (b := pB m q) (nP m)
    have hx1 := F.k hx (by unfold SQ; omega)
    have wa1 := wa.keep F (fun a z => by unfold SQ at z; omega)
    obtain ⟨fl, ol⟩ := ol
    obtain ⟨fg, og⟩ := og
    have ol1 := F0.k ol (by unfold SQ4; omega)
    have og1 := F0.k og (by unfold SQ4; omega)
    have sh1 : SHB h1 x := ⟨_, _, o1, ⟨_, oe1⟩, ⟨_, ow1⟩, ⟨_, os1, fs0⟩, ⟨_, ol1⟩, _, og1⟩
    refine r_popR rfl ?_
    unfold shF
    by_cases n0 : cntB (pB m q) (nP m) = 0
    · rw [n0] at o1 ee
      rw [if_pos n0]
      by_cases ek : k = -1
      · refine r_iload_2 rfl ?_
        refine r_push rfl ?_
        refine r_icneF rfl (ek) ?_
        refine r_aload_0 rfl ?_
        refine r_getf rfl (hx1) (by rfl) ?_
        refine r_invvP_0 rfl (o1) rfl rfl (by decide) (c_x5great0 o1) ?_
        refine r_push rfl ?_
        refine r_icneF rfl (rfl) ?_
        refine r_push rfl ?_
        refine r_goto rfl ?_
        refine r_iret rfl ?_
        exact Or.inl ⟨_, _, rfl, rfl, rfl, sh1, F⟩
      · refine r_iload_2 rfl ?_
        refine r_push rfl ?_
        refine r_icneT rfl (ek) ?_
        refine r_aload_0 rfl ?_
        refine r_getf rfl (hx1) (by rfl) ?_
        refine r_getf rfl (o1) (by rfl) ?_
        refine r_ifeqT rfl (rfl) ?_
        refine r_push rfl ?_
        refine r_goto rfl ?_
        refine r_iret rfl ?_
        exact Or.inl ⟨_, _, rfl, rfl, rfl, sh1, F⟩
    · rw [if_neg n0]
      obtain ⟨u, eu⟩ := mF_some (W := Ws m) (s := stF m q (nP m)) (Nat.pos_of_ne_zero n0)
      have hu := mF_le (Ws_wl v) _ _ _ eu
      rw [eu] at ee ⊢
      by_cases ek : k = -1
      · rw [if_pos ek]
        have cg := c_x5great (G := G) o1 oe1 hS1 (Nat.pos_of_ne_zero n0) (by omega)
        refine r_iload_2 rfl ?_
        refine r_push rfl ?_
        refine r_icneF rfl (ek) ?_
        refine r_aload_0 rfl ?_
        refine r_getf rfl (hx1) (by rfl) ?_
        refine r_invvP_0 rfl (o1) rfl rfl (by decide) (cg) ?_
        refine r_push rfl ?_
        refine r_icneT rfl (by rw [ee]; exact fun z => absurd (nI_inj (a := u) (c := 1000000) (by omega) (by decide) z) (by omega)) ?_
        refine r_aload_0 rfl ?_
        refine r_getf rfl (hx1) (by rfl) ?_
        refine r_invvP_0 rfl (o1) rfl rfl (by decide) (cg) ?_
        refine r_iret rfl ?_
        exact Or.inl ⟨_, _, rfl, rfl, by rw [ee]; rfl, sh1, F⟩
      · rw [if_neg ek]
        by_cases k0 : k < 0
        · have eno : whW (Ws m) (cntB (pB m q) (nP m)) (stF m q (nP m)) ((some u).getD 0) (selB (pB m q) (nP m)) k = -1 := by
            unfold whW
            rw [if_pos (inF_l k0)]
          rw [eno]
          refine r_iload_2 rfl ?_
          refine r_push rfl ?_
          refine r_icneT rfl (ek) ?_
          refine r_aload_0 rfl ?_
          refine r_getf rfl (hx1) (by rfl) ?_
          refine r_getf rfl (o1) (by rfl) ?_
          refine r_ifeqF rfl (fun z => n0 (nI_inj (c := 0) (by omega) (by decide) z)) ?_
          refine r_iload_2 rfl ?_
          refine r_ifgeF rfl (k0) ?_
          refine r_push rfl ?_
          refine r_goto rfl ?_
          refine r_iret rfl ?_
          exact Or.inl ⟨_, _, rfl, rfl, rfl, sh1, F⟩
        · have cw := c_x5whom (G := G) (k := k) (P := selB (pB m q) (nP m)) (Ws_wl v) hx1 wa1 o1 oe1 ow1 os1 ol1 og1 hS1 (by omega) (Nat.pos_of_ne_zero n0) eu ee hS (fun s hs => Ws_one v (stF_bit _ hs)) (fun t ht => by
            obtain ⟨z, h1, h2, h3⟩ := cntB_ex (b := pB m q) _ _ ht
            rw [← h3, hw z h1 h2, selB_at h2 _ h1])
          refine r_iload_2 rfl ?_
          refine r_push rfl ?_
          refine r_icneT rfl (ek) ?_
          refine r_aload_0 rfl ?_
          refine r_getf rfl (hx1) (by rfl) ?_
          refine r_getf rfl (o1) (by rfl) ?_
          refine r_ifeqF rfl (fun z => n0 (nI_inj (c := 0) (by omega) (by decide) z)) ?_
          refine r_iload_2 rfl ?_
          refine r_ifgeT rfl (Int32.not_lt.mp k0) ?_
          refine r_aload_0 rfl ?_
          refine r_getf rfl (hx1) (by rfl) ?_
          refine r_iload_2 rfl ?_
          refine r_invvE rfl rfl (o1) rfl rfl (by decide) (cw) ?_
          rintro r2 h2 ⟨rfl, fl', fg', rfl⟩
          refine r_iret rfl ?_
          exact Or.inl ⟨_, _, rfl, rfl, rfl, ⟨_, _, am_set_k (am_set_k o1 (by omega)) (by omega), ⟨_, am_set_k (am_set_k oe1 (by omega)) (by omega)⟩, ⟨_, am_set_k (am_set_k ow1 (by omega)) (by omega)⟩, ⟨_, am_set_k (am_set_k os1 (by omega)) (by omega), fs0⟩, ⟨_, am_set_k am_set_at (by omega)⟩, _, am_set_at⟩, HF.setP (HF.setP F ol1 (by unfold SQ; omega)) (am_set_k og1 (by omega)) (by unfold SQ; omega)⟩
end
