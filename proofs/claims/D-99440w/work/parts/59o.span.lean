/-! WHAT IS AHEAD: span on both sides -/
set_option maxRecDepth 100000
def manyF (m : Nat → Int32) (n s : Nat) : Int32 := bitsF (hurtF (hourN true (upd m 8 (nI s)) n).2)
def spN (m : Nat → Int32) (n : Nat) (most : Int32) : Nat → Int32
  | 0 => -1
  | j + 1 => if spN m n most j = -1 then manyF m n (j + 1) else if most = 0 then minF (spN m n most j) (manyF m n (j + 1)) else maxF (spN m n most j) (manyF m n (j + 1))
def qSpan (m : Nat → Int32) (n most : Int32) : Nat × Int32 := if inF n 0 100 = false then (1, 0) else (0, spN m n.toNatClampNeg most 6)
theorem hurtF_n {m : Nat → Int32} (v : VR m) : ∃ s, s < 1024 ∧ hurtF m = nI s := by
  have h := v.pp.2
  refine ⟨bsN (fun p => !decide (m (38 + 6 * p) = 0)) (nP m), ?_, bsF_N (by omega)⟩
  have := bsN_lt (c := fun p => !decide (m (38 + 6 * p) = 0)) (n := nP m)
  have := pow10 (n := nP m) (by omega)
  omega
section
variable {G : am_G} {bs : Nat} {S : Nat → Prop} {h h0 : am_H} {x y w w1 : Nat} {hi : Bool} {m b g mt bt : Nat → Int32} {l lt : Value}
theorem HL.trans (q : HL G bs x w S hi h b l m h0) {h' : am_H} {mt : Nat → Int32} (r : HL G bs x w S hi h0 b l mt h') : HL G bs x w S hi h b l mt h' := ⟨r.1, (HF.trans q.2 r.2).mono (fun _ z => z) (Nat.le_refl _) (Nat.le_refl _)⟩
theorem HS.keep1 (q : HS G bs x (x + 1) S hi h m b l) (g1 : GEO bs x (x + 1) S) (ge : GEO bs x w S) (hd : w + 15 ≤ x ∨ x + 48 < w) {h' : am_H} (r : HL G bs x w S hi h b l mt h') : HS G bs x (x + 1) S hi h' m b l := by
  obtain ⟨q1, q2, q3, q4, q5, q6, q7, s, q8⟩ := q
  obtain ⟨⟨-, -, -, -, r5, r6, r7, r8⟩, f⟩ := r
  obtain ⟨z1, z2, z3, z4⟩ := ge
  have kS : SK S h h' := fun a e sa ea => f.k ea (z4 a sa)
  exact ⟨q1.keep f (fun a z => by unfold HP InW at z; omega), q2, q3, q4.keep kS rfl rfl (fun _ _ => rfl), r5, r6, r7, r8⟩
theorem c_xSpan (q : HS G bs x (x + 1) S hi h m b l) (g1 : GEO bs x (x + 1) S) (ge : GEO bs x (x + 72) S) (qt : WA h (x + 72) mt bt lt) (n most : Int32) : Et G 46 m_X1_span [.ref x, .int n, .int most] h (fun v h' => (qSpan m n most).1 = 0 ∧ v = .int (qSpan m n most).2 ∧ ∃ mx, HL G bs x (x + 72) S hi h b l mx h') (QX h (qSpan m n most) (k1 18)) := by
  have o := q.2.2.2.2.2.2.1
  have ot := wa_o qt
  refine wc_in mt_X1_span rfl (L := [.ref x, .int n, .int most, am_un, am_un, am_un]) rfl ?_
  refine r_iload_1 rfl ?_
  refine r_push rfl ?_
  refine r_push rfl ?_
  refine r_invP_3 rfl rfl (by decide) (c_in _ _ _) ?_
  unfold qSpan
  cases e : inF n 0 100 with
  | false =>
    rw [if_pos rfl]
    refine r_invX rfl rfl rfl rfl (by decide) (c_demandF rfl) ?_
    exact Or.inr ⟨_, _, rfl, by decide, rfl, rfl⟩
  | true =>
    rw [if_neg (by decide)]
    refine r_invO rfl rfl rfl (by decide) (c_demandT (by decide)) ?_
    obtain ⟨k, hk, rfl⟩ := inF_nI (n := 101) (by decide) e
    rw [nI_clamp (show k < 2 ^ 31 by omega)]
    refine r_push rfl ?_
    refine r_istore_3 rfl ?_
    refine r_push rfl ?_
    refine r_istore_4 rfl ?_
    have gen : ∃ z6, z6 = spN m k most 6 := ⟨_, rfl⟩
    obtain ⟨z6, ez6⟩ := gen
    rw [← ez6]
    refine wp_forH 6 (fun j L h' => (∃ x5, L = [.ref x, .int (nI k), .int most, .int (spN m k most j), .int (nI (j + 1)), x5]) ∧ HS G bs x (x + 1) S hi h' m b l ∧ (∃ m1 b1 l1, WA h' (x + 72) m1 b1 l1) ∧ ((j = 0 ∧ h' = h) ∨ ∃ mx, HL G bs x (x + 72) S hi h b l mx h')) (fun j L h' hj hI kont => ?_) (fun L h' hI => ?_) _ _ ⟨⟨am_un, rfl⟩, q, ⟨_, _, _, qt⟩, Or.inl ⟨rfl, rfl⟩⟩
    · obtain ⟨⟨x5, rfl⟩, hs, ⟨m1, b1, l1, w1⟩, hl⟩ := hI
      have o' := hs.2.2.2.2.2.2.1
      have ot' := wa_o w1
      refine r_iload_4 rfl ?_
      refine r_push rfl ?_
      refine r_icgtF rfl (nI_le (a := j + 1) (b := 6) (by omega) (by decide)) ?_
      refine r_aload_0 rfl ?_
      refine r_getf rfl o' rfl ?_
      refine r_aload_0 rfl ?_
      refine r_getf rfl o' rfl ?_
      refine r_invvE rfl rfl ot' rfl rfl (by decide) (c_like hs g1 ge w1 (by omega)) ?_
      rintro r h1 ⟨rfl, kk1⟩
      refine r_popR rfl ?_
      refine r_aload_0 rfl ?_
      refine r_getf rfl kk1.1.2.2.2.2.2.2.1 rfl ?_
      refine r_iload_4 rfl ?_
      refine r_puti rfl (wa_o kk1.1.1) rfl ?_
      rw [wo_6]
      have ok := seed_ok kk1.1.2.1 kk1.1.2.2.1 (nI (j + 1))
      have k2 := kk1.wo ge (kk1.1.1.hf kk1.1.2.2.2.2.1 (i := 0) (by decide)) (kk1.1.1.ob (k := 8) (v := nI (j + 1)) (by decide)) ok
      refine r_aload_0 rfl ?_
      refine r_iload_1 rfl ?_
      refine r_invvF rfl rfl k2.1.2.2.2.2.2.2.1 rfl rfl (by decide) (c_tries k2 ge (n := k) (by omega)) ?_
      rintro h3 K
      have KK := K
      obtain ⟨⟨w2, v2, y2, -, -, -, o2, -⟩, f2⟩ := K
      have ow := wa_o w2
      obtain ⟨s, hs10, es⟩ := hurtF_n v2
      have hs3 := hs.keep1 g1 ge (by omega) KK
      have hl3 : ∃ mx, HL G bs x (x + 72) S hi h b l mx h3 := by
        rcases hl with ⟨-, rfl⟩ | ⟨mx, hl⟩
        · exact ⟨_, KK⟩
        · exact ⟨_, hl.trans KK⟩
      refine r_aload_0 rfl ?_
      refine r_getf rfl o2 rfl ?_
      refine r_invvP_0 rfl ow rfl rfl (by decide) (c_hurtOnes w2 v2) ?_
      rw [es]
      refine r_invP_1 rfl rfl (by decide) (c_bitCount hs10) ?_
      rw [← es]
      change Wp G 46 mt_X1_span 58 _ [.int (manyF m k (j + 1))] _ _
      have fin : ∀ r, r = spN m k most (j + 1) → Wp G 46 mt_X1_span 89 [.ref x, .int (nI k), .int most, .int (spN m k most j), .int (nI (j + 1)), .int (manyF m k (j + 1))] [.int r] h3 (fun R => (∃ v h', R = .inl (some v, h') ∧ (0, z6).1 = 0 ∧ v = .int (0, z6).2 ∧ ∃ mx, HL G bs x (x + 72) S hi h b l mx h') ∨ (∃ c h', R = .inr (c, h') ∧ QX h (0, z6) (k1 18) c h')) := by
        rintro r rfl
        refine r_istore_3 rfl ?_
        refine r_iinc_4 rfl ?_
        refine r_goto rfl ?_
        rw [nI_1]
        exact kont _ _ ⟨⟨_, rfl⟩, hs3, ⟨_, _, _, w2⟩, Or.inr hl3⟩
      rw [spN] at fin
      generalize manyF m k (j + 1) = mn at *
      by_cases c : spN m k most j = -1
      · rw [if_pos c] at fin
        refine r_istore_5 rfl ?_
        refine r_iload_3 rfl ?_
        refine r_push rfl ?_
        refine r_icneF rfl (c) ?_
        refine r_iload_5 rfl ?_
        refine r_goto rfl ?_
        exact fin _ rfl
      · rw [if_neg c] at fin
        by_cases d : most = 0
        · rw [if_pos d] at fin
          refine r_istore_5 rfl ?_
          refine r_iload_3 rfl ?_
          refine r_push rfl ?_
          refine r_icneT rfl (c) ?_
          refine r_iload_2 rfl ?_
          refine r_ifeqT rfl (d) ?_
          refine r_iload_3 rfl ?_
          refine r_iload_5 rfl ?_
          refine r_invP_2 rfl rfl (by decide) (c_min _ _) ?_
          exact fin _ rfl
        · rw [if_neg d] at fin
          refine r_istore_5 rfl ?_
          refine r_iload_3 rfl ?_
          refine r_push rfl ?_
          refine r_icneT rfl (c) ?_
          refine r_iload_2 rfl ?_
          refine r_ifeqF rfl (d) ?_
          refine r_iload_3 rfl ?_
          refine r_iload_5 rfl ?_
          refine r_invP_2 rfl rfl (by decide) (c_max _ _) ?_
          refine r_goto rfl ?_
          exact fin _ rfl
    · obtain ⟨⟨x5, rfl⟩, hs, -, hl⟩ := hI
      have hl3 : ∃ mx, HL G bs x (x + 72) S hi h b l mx h' := by
        rcases hl with ⟨z, -⟩ | hl
        · cases z
        · exact hl
      rw [← ez6]
      refine r_iload_4 rfl ?_
      refine r_push rfl ?_
      refine r_icgtT rfl (by decide) ?_
      refine r_iload_3 rfl ?_
      refine r_iret rfl ?_
      exact Or.inl ⟨_, _, rfl, rfl, rfl, hl3⟩
end
