/-! ACTS of the model: lend, pay -/
set_option maxRecDepth 100000
theorem mv_lo {m : Nat → Int32} {a c : Nat} {n : Int32} {k : Nat} (ha : a < 6) (hc : c < 6) (h : k < 33 ∨ 69 ≤ k) : mvF m a c n k = m k := by
  unfold mvF
  rw [upd_ne (by omega), upd_ne (by omega)]
theorem VR.mv {m : Nat → Int32} (v : VR m) {a c : Nat} (ha : a < 6) (hc : c < 6) {n : Int32} : VR (mvF m a c n) := by
  unfold mvF
  refine VR.u (v.u ?_) ?_
  · exact Or.inr (Or.inr (Or.inr (Or.inl ⟨by omega, by omega, fun z => by omega, fun z => by omega⟩)))
  · exact Or.inr (Or.inr (Or.inr (Or.inl ⟨by omega, by omega, fun z => by omega, fun z => by omega⟩)))
theorem ad_lo {m : Nat → Int32} {a c n w : Int32} {k s : Nat} (e4 : m 4 = nI s) (hs : s < 10) (h : k < 69 + 6 * s ∨ 75 + 6 * s ≤ k) (h4 : k ≠ 4) : adF m a c n w k = m k := by
  have ec : (m 4).toNatClampNeg = s := by rw [e4]; exact nI_clamp (by omega)
  unfold adF
  rw [ec, upd_ne h4, upd_ne (by omega), upd_ne (by omega), upd_ne (by omega), upd_ne (by omega), upd_ne (by omega), upd_ne (by omega)]
/-- a row with one stone more -/
theorem VR.more {m m' : Nat → Int32} (v : VR m) {s : Nat} (es : nS m = s) (hs : s < 10) (e : ∀ k, k < 69 + 6 * s ∨ 75 + 6 * s ≤ k → k ≠ 4 → m' k = m k) (e4 : m' 4 = nI (s + 1)) (h : isB (m' (69 + 6 * s)) (nP m) ∧ isB (m' (70 + 6 * s)) (nP m) ∧ (isB (m' (71 + 6 * s)) 41 ∧ m' (71 + 6 * s) ≠ 0) ∧ isB (m' (72 + 6 * s)) 3 ∧ (m' (72 + 6 * s) = 0 → isB (m' (73 + 6 * s)) (nP m)) ∧ (m' (72 + 6 * s) = 1 → isB (m' (74 + 6 * s)) 12)) : VR m' := by
  have e3 := e 3 (by omega) (by omega)
  have eP : nP m' = nP m := by unfold nP; rw [e3]
  have eS : nS m' = s + 1 := by unfold nS; rw [e4]; exact nI_clamp (by omega)
  have eL : nL m' = nL m := by unfold nL; rw [e 7 (by omega) (by omega)]
  have hP := v.pp.2
  obtain ⟨⟨v1, v2, v3⟩, ⟨v4, v5⟩, v6, v7, v8⟩ := v
  refine ⟨⟨by rw [e3, eP]; exact v1, by rw [e4, eS]; exact ⟨rfl, by omega⟩, by rw [e 7 (by omega) (by omega), eL]; exact v3⟩, ⟨by rw [e 0 (by omega) (by omega)]; exact v4, by rw [e 1 (by omega) (by omega)]; exact v5⟩, fun q hq => ?_, fun p hp => ?_, fun r hr => ?_⟩
  · rw [e (9 + q) (by omega) (by omega), e (21 + q) (by omega) (by omega)]; exact v6 q hq
  · rw [eP] at hp
    rw [e (35 + 6 * p) (by omega) (by omega), e (36 + 6 * p) (by omega) (by omega), e (38 + 6 * p) (by omega) (by omega)]; exact v7 p hp
  · rw [eS] at hr
    rw [eP]
    by_cases c : r = s
    · subst c; exact h
    · rw [e (69 + 6 * r) (by omega) (by omega), e (70 + 6 * r) (by omega) (by omega), e (71 + 6 * r) (by omega) (by omega), e (72 + 6 * r) (by omega) (by omega), e (73 + 6 * r) (by omega) (by omega), e (74 + 6 * r) (by omega) (by omega)]
      exact v8 r (by omega)
theorem ad_at {m : Nat → Int32} {a c n w : Int32} {s : Nat} (e4 : m 4 = nI s) (hs : s < 10) : adF m a c n w (69 + 6 * s) = a ∧ adF m a c n w (70 + 6 * s) = c ∧ adF m a c n w (71 + 6 * s) = n ∧ adF m a c n w (72 + 6 * s) = 0 ∧ adF m a c n w (73 + 6 * s) = w ∧ adF m a c n w (74 + 6 * s) = 0 ∧ adF m a c n w 4 = nI (s + 1) := by
  have ec : (m 4).toNatClampNeg = s := by rw [e4]; exact nI_clamp (by omega)
  unfold adF
  rw [ec]
  refine ⟨?_, ?_, ?_, ?_, ?_, ?_, by rw [upd_eq, e4, nI_1]⟩
  · rw [upd_ne (by omega), upd_ne (by omega), upd_ne (by omega), upd_ne (by omega), upd_ne (by omega), upd_ne (by omega), upd_eq]
  · rw [upd_ne (by omega), upd_ne (by omega), upd_ne (by omega), upd_ne (by omega), upd_ne (by omega), upd_eq]
  · rw [upd_ne (by omega), upd_ne (by omega), upd_ne (by omega), upd_ne (by omega), upd_eq]
  · rw [upd_ne (by omega), upd_ne (by omega), upd_ne (by omega), upd_eq]
  · rw [upd_ne (by omega), upd_ne (by omega), upd_eq]
  · rw [upd_ne (by omega), upd_eq]
theorem VR.ad {m : Nat → Int32} (v : VR m) {s : Nat} (es : nS m = s) (hs : s < 10) {a c n w : Int32} (h1 : isB a (nP m)) (h2 : isB c (nP m)) (h3 : isB n 41 ∧ n ≠ 0) (h4 : isB w (nP m)) : VR (adF m a c n w) := by
  have e4 : m 4 = nI s := by rw [v.ss.1, es]
  obtain ⟨z1, z2, z3, z4, z5, z6, z7⟩ := ad_at (a := a) (c := c) (n := n) (w := w) e4 hs
  refine v.more es hs (fun k hk h4 => ad_lo e4 hs hk h4) z7 ⟨by rw [z1]; exact h1, by rw [z2]; exact h2, by rw [z3]; exact h3, by rw [z4]; exact ⟨0, by decide, rfl⟩, fun _ => by rw [z5]; exact h4, fun z => absurd (z4.symm.trans z) (by decide)⟩
/-- lent -/
def lendR (m : Nat → Int32) (l x : Nat) (w : Int32) : Nat → Int32 := tlF (adF (mvF m l x w) (nI x) (nI l) w (nI x)) (m 4) 0 w
def qLend (m : Nat → Int32) (l x w : Int32) : Nat × Int32 := if inF l 0 (m 3 - 1) = false then (1, 0) else if inF x 0 (m 3 - 1) = false then (1, 0) else if l = x ∨ inF w 1 40 = false then (2, 0) else if m 4 = 10 ∨ m (33 + 6 * l.toNatClampNeg) < w then (3, 0) else (0, m 4)
/-- paid -/
def payR (m : Nat → Int32) (z : Nat) : Nat → Int32 := tlF (upd (mvF m (m (69 + 6 * z)).toNatClampNeg (m (70 + 6 * z)).toNatClampNeg (m (71 + 6 * z))) (72 + 6 * z) 2) (nI z) 1 (m (71 + 6 * z))
def qPay (m : Nat → Int32) (z : Int32) : Nat × Int32 := if inF z 0 (m 4 - 1) = false then (1, 0) else if m (72 + 6 * z.toNatClampNeg) = 2 ∨ m (33 + 6 * (m (69 + 6 * z.toNatClampNeg)).toNatClampNeg) < m (71 + 6 * z.toNatClampNeg) then (2, 0) else (0, payR m z.toNatClampNeg (33 + 6 * (m (69 + 6 * z.toNatClampNeg)).toNatClampNeg))
theorem isW {w : Int32} (h : inF w 1 40 = true) : isB w 41 ∧ w ≠ 0 := by
  have hh : 1 ≤ w ∧ w ≤ 40 := by simpa [inF] using h
  have h0 : inF w 0 (nI 41 - 1) = true := inF_t (by
    have := Int32.le_iff_toInt_le.mp hh.1
    exact Int32.le_iff_toInt_le.mpr (Int.le_trans (by decide) this)) hh.2
  obtain ⟨i, hi, rfl⟩ := inF_nI (by decide) h0
  refine ⟨⟨i, hi, rfl⟩, fun z => ?_⟩
  rw [z] at hh
  exact absurd hh.1 (by decide)
theorem lendR_ok {m : Nat → Int32} (v : VR m) {l x : Nat} (hl : l < nP m) (hx : x < nP m) {w : Int32} (hw : isB w 41 ∧ w ≠ 0) (hs : nS m < 10) : VR (lendR m l x w) := by
  have hP := v.pp.2
  have v1 := v.mv (a := l) (c := x) (n := w) (by omega) (by omega)
  have eS : nS (mvF m l x w) = nS m := by unfold nS; rw [mv_lo (by omega) (by omega) (by omega)]
  have eP : nP (mvF m l x w) = nP m := by unfold nP; rw [mv_lo (by omega) (by omega) (by omega)]
  exact (v1.ad eS hs (by rw [eP]; exact ⟨x, hx, rfl⟩) (by rw [eP]; exact ⟨l, hl, rfl⟩) hw (by rw [eP]; exact ⟨x, hx, rfl⟩)).tl _ _ _
theorem VR.paid {m : Nat → Int32} (v : VR m) {z : Nat} (hz : z < nS m) : VR (upd m (72 + 6 * z) 2) := by
  have := v.stone (s := z) hz (st := 2) (br := upd m (72 + 6 * z) 2 (73 + 6 * z)) (at_ := upd (upd m (72 + 6 * z) 2) (73 + 6 * z) (upd m (72 + 6 * z) 2 (73 + 6 * z)) (74 + 6 * z)) ⟨2, by decide, rfl⟩ (fun e => absurd e (by decide)) (fun e => absurd e (by decide))
  rw [upd_self (k := 74 + 6 * z) rfl, upd_self (k := 73 + 6 * z) rfl] at this
  exact this
theorem payR_ok {m : Nat → Int32} (v : VR m) {z : Nat} (hz : z < nS m) : VR (payR m z) := by
  have hP := v.pp.2
  obtain ⟨⟨a, ha, ea⟩, ⟨c, hc, ec⟩, -⟩ := v.st z hz
  unfold payR
  rw [ea, ec, nI_clamp (show a < 2 ^ 31 by omega), nI_clamp (show c < 2 ^ 31 by omega)]
  have v1 := v.mv (a := a) (c := c) (n := m (71 + 6 * z)) (by omega) (by omega)
  have eS : nS (mvF m a c (m (71 + 6 * z))) = nS m := by unfold nS; rw [mv_lo (by omega) (by omega) (by omega)]
  exact (v1.paid (by rw [eS]; exact hz)).tl _ _ _
section
variable {G : am_G} {h : am_H} {y k : Nat} {m g ac : Nat → Int32}
theorem c_yLend (q : MM h y g m) (v : VR m) (qa : h.1 (y + 4) = some (.inl (0, 4428, .inl ac))) (e6 : g 6 = nI k) (hk : k ≤ 12) (l x w : Int32) : Ac G 4 m_X6_lend [.ref y, .int l, .int x, .int w] h y g ac m (lendR m l.toNatClampNeg x.toNatClampNeg w) k (qLend m l x w) := by
  have o := q.1; have oo := q.2
  have o1 := (q.thr (nI 1)).1; have o2 := (q.thr (nI 2)).1; have o4 := (q.thr (nI 3)).1; have o3 := (q.thr (nI 0)).1
  have m3 := q.thr (nI 0)
  refine wc_in mt_X6_lend rfl (L := [.ref y, .int l, .int x, .int w]) rfl ?_
  unfold qLend
  cases e1 : inF l 0 (m 3 - 1) with
  | false =>
    rw [if_pos rfl]
    refine r_aload_0 rfl ?_
    refine r_aload_0 rfl ?_
    refine r_iload_1 rfl ?_
    refine r_invvP_1 rfl (o) rfl rfl (by decide) (c_mIsPerson q l) ?_
    refine r_ifeqT rfl (by rw [e1]; rfl) ?_
    refine r_push rfl ?_
    refine r_goto rfl ?_
    refine r_puti rfl (o) rfl ?_
    rw [mo_0]
    refine r_aload_0 rfl ?_
    refine r_getf rfl (o1) (by rfl) ?_
    refine r_ifleF rfl (by rw [upd_eq]; decide) ?_
    refine r_push rfl ?_
    refine r_iret rfl ?_
    rfl
  | true =>
    rw [if_neg (by decide)]
    cases e2 : inF x 0 (m 3 - 1) with
    | false =>
      rw [if_pos rfl]
      refine r_aload_0 rfl ?_
      refine r_aload_0 rfl ?_
      refine r_iload_1 rfl ?_
      refine r_invvP_1 rfl (o) rfl rfl (by decide) (c_mIsPerson q l) ?_
      refine r_ifeqF rfl (by rw [e1]; decide) ?_
      refine r_aload_0 rfl ?_
      refine r_iload_2 rfl ?_
      refine r_invvP_1 rfl (o) rfl rfl (by decide) (c_mIsPerson q x) ?_
      refine r_ifneF rfl (by rw [e2]; rfl) ?_
      refine r_push rfl ?_
      refine r_goto rfl ?_
      refine r_puti rfl (o) rfl ?_
      rw [mo_0]
      refine r_aload_0 rfl ?_
      refine r_getf rfl (o1) (by rfl) ?_
      refine r_ifleF rfl (by rw [upd_eq]; decide) ?_
      refine r_push rfl ?_
      refine r_iret rfl ?_
      rfl
    | true =>
      rw [if_neg (by decide)]
      by_cases c1 : l = x
      · rw [if_pos (Or.inl c1)]
        refine r_aload_0 rfl ?_
        refine r_aload_0 rfl ?_
        refine r_iload_1 rfl ?_
        refine r_invvP_1 rfl (o) rfl rfl (by decide) (c_mIsPerson q l) ?_
        refine r_ifeqF rfl (by rw [e1]; decide) ?_
        refine r_aload_0 rfl ?_
        refine r_iload_2 rfl ?_
        refine r_invvP_1 rfl (o) rfl rfl (by decide) (c_mIsPerson q x) ?_
        refine r_ifneT rfl (by rw [e2]; decide) ?_
        refine r_iload_1 rfl ?_
        refine r_iload_2 rfl ?_
        refine r_iceqT rfl (c1) ?_
        refine r_push rfl ?_
        refine r_goto rfl ?_
        refine r_puti rfl (o) rfl ?_
        rw [mo_0]
        refine r_aload_0 rfl ?_
        refine r_getf rfl (o2) (by rfl) ?_
        refine r_ifleF rfl (by rw [upd_eq]; decide) ?_
        refine r_push rfl ?_
        refine r_iret rfl ?_
        rfl
      · cases e3 : inF w 1 40 with
        | false =>
          rw [if_pos (Or.inr rfl)]
          refine r_aload_0 rfl ?_
          refine r_aload_0 rfl ?_
          refine r_iload_1 rfl ?_
          refine r_invvP_1 rfl (o) rfl rfl (by decide) (c_mIsPerson q l) ?_
          refine r_ifeqF rfl (by rw [e1]; decide) ?_
          refine r_aload_0 rfl ?_
          refine r_iload_2 rfl ?_
          refine r_invvP_1 rfl (o) rfl rfl (by decide) (c_mIsPerson q x) ?_
          refine r_ifneT rfl (by rw [e2]; decide) ?_
          refine r_iload_1 rfl ?_
          refine r_iload_2 rfl ?_
          refine r_iceqF rfl (c1) ?_
          refine r_iload_3 rfl ?_
          refine r_push rfl ?_
          refine r_push rfl ?_
          refine r_invP_3 rfl rfl (by decide) (c_isIn _ _ _) ?_
          refine r_ifneF rfl (by rw [e3]; rfl) ?_
          refine r_push rfl ?_
          refine r_goto rfl ?_
          refine r_puti rfl (o) rfl ?_
          rw [mo_0]
          refine r_aload_0 rfl ?_
          refine r_getf rfl (o2) (by rfl) ?_
          refine r_ifleF rfl (by rw [upd_eq]; decide) ?_
          refine r_push rfl ?_
          refine r_iret rfl ?_
          rfl
        | true =>
          rw [if_neg (fun z => z.elim c1 (fun z => absurd z (by decide)))]
          have f1 := e1
          have f2 := e2
          rw [v.pp.1] at f1 f2
          have hP := v.pp.2
          obtain ⟨i, hi6, rfl⟩ := inF_nI (by omega) f1
          obtain ⟨j, hj6, rfl⟩ := inF_nI (by omega) f2
          have hi9 : i < 6 := by omega
          have hj9 : j < 6 := by omega
          rw [nI_clamp (show i < 2 ^ 31 by omega), nI_clamp (show j < 2 ^ 31 by omega)]
          by_cases A : m 4 = 10
          · rw [if_pos (Or.inl A)]
            refine r_aload_0 rfl ?_
            refine r_aload_0 rfl ?_
            refine r_iload_1 rfl ?_
            refine r_invvP_1 rfl (o) rfl rfl (by decide) (c_mIsPerson q _) ?_
            refine r_ifeqF rfl (by rw [e1]; decide) ?_
            refine r_aload_0 rfl ?_
            refine r_iload_2 rfl ?_
            refine r_invvP_1 rfl (o) rfl rfl (by decide) (c_mIsPerson q _) ?_
            refine r_ifneT rfl (by rw [e2]; decide) ?_
            refine r_iload_1 rfl ?_
            refine r_iload_2 rfl ?_
            refine r_iceqF rfl (c1) ?_
            refine r_iload_3 rfl ?_
            refine r_push rfl ?_
            refine r_push rfl ?_
            refine r_invP_3 rfl rfl (by decide) (c_isIn _ _ _) ?_
            refine r_ifneT rfl (by rw [e3]; decide) ?_
            refine r_aload_0 rfl ?_
            refine r_getf rfl (o) (by rfl) ?_
            refine r_push rfl ?_
            refine r_iald rfl (oo) (show (4 : Int32) = nI 4 from rfl) (by first | assumption | omega) (by first | decide | omega) ?_
            refine r_push rfl ?_
            refine r_iceqT rfl (A) ?_
            refine r_push rfl ?_
            refine r_goto rfl ?_
            refine r_puti rfl (o) rfl ?_
            rw [mo_0]
            refine r_aload_0 rfl ?_
            refine r_getf rfl (o4) (by rfl) ?_
            refine r_ifleF rfl (by rw [upd_eq]; decide) ?_
            refine r_push rfl ?_
            refine r_iret rfl ?_
            rfl
          · by_cases B : m (33 + 6 * i) < w
            · rw [if_pos (Or.inr B)]
              refine r_aload_0 rfl ?_
              refine r_aload_0 rfl ?_
              refine r_iload_1 rfl ?_
              refine r_invvP_1 rfl (o) rfl rfl (by decide) (c_mIsPerson q _) ?_
              refine r_ifeqF rfl (by rw [e1]; decide) ?_
              refine r_aload_0 rfl ?_
              refine r_iload_2 rfl ?_
              refine r_invvP_1 rfl (o) rfl rfl (by decide) (c_mIsPerson q _) ?_
              refine r_ifneT rfl (by rw [e2]; decide) ?_
              refine r_iload_1 rfl ?_
              refine r_iload_2 rfl ?_
              refine r_iceqF rfl (c1) ?_
              refine r_iload_3 rfl ?_
              refine r_push rfl ?_
              refine r_push rfl ?_
              refine r_invP_3 rfl rfl (by decide) (c_isIn _ _ _) ?_
              refine r_ifneT rfl (by rw [e3]; decide) ?_
              refine r_aload_0 rfl ?_
              refine r_getf rfl (o) (by rfl) ?_
              refine r_push rfl ?_
              refine r_iald rfl (oo) (show (4 : Int32) = nI 4 from rfl) (by first | assumption | omega) (by first | decide | omega) ?_
              refine r_push rfl ?_
              refine r_iceqF rfl (A) ?_
              refine r_aload_0 rfl ?_
              refine r_iload_1 rfl ?_
              refine r_push rfl ?_
              refine r_invvP_2 rfl (o) rfl rfl (by decide) (c_of0 q (by omega)) ?_
              refine r_iload_3 rfl ?_
              refine r_icgeF rfl (B) ?_
              refine r_push rfl ?_
              refine r_goto rfl ?_
              refine r_puti rfl (o) rfl ?_
              rw [mo_0]
              refine r_aload_0 rfl ?_
              refine r_getf rfl (o4) (by rfl) ?_
              refine r_ifleF rfl (by rw [upd_eq]; decide) ?_
              refine r_push rfl ?_
              refine r_iret rfl ?_
              rfl
            · rw [if_neg (fun z => z.elim A B)]
              have e4 := v.ss.1
              have hs10 : nS m < 10 := by
                have := v.ss.2
                rcases Nat.lt_or_eq_of_le this with z | z
                · exact z
                · rw [z] at e4; exact absurd e4 A
              have a0 := actM (ac := ac) (k := k) q (m' := m)
              have a1 := actM (ac := ac) (k := k) q (m' := mvF m i j w)
              have a2 := actM (ac := ac) (k := k) q (m' := adF (mvF m i j w) (nI j) (nI i) w (nI j))
              have a3 := actM (ac := ac) (k := k) q (m' := lendR m i j w)
              have e41 : mvF m i j w 4 = nI (nS m) := by rw [mv_lo hi9 hj9 (by omega), e4]
              have z7 : adF (mvF m i j w) (nI j) (nI i) w (nI j) 4 - 1 = m 4 := by rw [(ad_at e41 hs10).2.2.2.2.2.2, show (1 : Int32) = nI 1 from rfl, nI_sub (by omega), e4]; rfl
              have z8 : lendR m i j w 4 - 1 = m 4 := by unfold lendR; rw [tl_lo (by decide) (by decide), z7]
              refine r_aload_0 rfl ?_
              refine r_aload_0 rfl ?_
              refine r_iload_1 rfl ?_
              refine r_invvP_1 rfl (o) rfl rfl (by decide) (c_mIsPerson q _) ?_
              refine r_ifeqF rfl (by rw [e1]; decide) ?_
              refine r_aload_0 rfl ?_
              refine r_iload_2 rfl ?_
              refine r_invvP_1 rfl (o) rfl rfl (by decide) (c_mIsPerson q _) ?_
              refine r_ifneT rfl (by rw [e2]; decide) ?_
              refine r_iload_1 rfl ?_
              refine r_iload_2 rfl ?_
              refine r_iceqF rfl (c1) ?_
              refine r_iload_3 rfl ?_
              refine r_push rfl ?_
              refine r_push rfl ?_
              refine r_invP_3 rfl rfl (by decide) (c_isIn _ _ _) ?_
              refine r_ifneT rfl (by rw [e3]; decide) ?_
              refine r_aload_0 rfl ?_
              refine r_getf rfl (o) (by rfl) ?_
              refine r_push rfl ?_
              refine r_iald rfl (oo) (show (4 : Int32) = nI 4 from rfl) (by first | assumption | omega) (by first | decide | omega) ?_
              refine r_push rfl ?_
              refine r_iceqF rfl (A) ?_
              refine r_aload_0 rfl ?_
              refine r_iload_1 rfl ?_
              refine r_push rfl ?_
              refine r_invvP_2 rfl (o) rfl rfl (by decide) (c_of0 q (by omega)) ?_
              refine r_iload_3 rfl ?_
              refine r_icgeT rfl (Int32.not_lt.mp B) ?_
              refine r_push rfl ?_
              refine r_puti rfl (o) rfl ?_
              rw [mo_0]
              refine r_aload_0 rfl ?_
              refine r_getf rfl (o3) (by rfl) ?_
              refine r_ifleT rfl (by rw [upd_eq]; decide) ?_
              refine r_aload_0 rfl ?_
              refine r_invvV rfl rfl (o3) rfl rfl (by decide) (c_rem q qa e6 hk) ?_
              refine r_aload_0 rfl ?_
              refine r_iload_1 rfl ?_
              refine r_iload_2 rfl ?_
              refine r_iload_3 rfl ?_
              refine r_invvV rfl rfl (a0.1) rfl rfl (by decide) (c_mmoves a0 hi9 hj9 _) ?_
              rw [act1]
              refine r_aload_0 rfl ?_
              refine r_iload_2 rfl ?_
              refine r_iload_1 rfl ?_
              refine r_iload_3 rfl ?_
              refine r_iload_2 rfl ?_
              refine r_invvV rfl rfl (a1.1) rfl rfl (by decide) (c_madds a1 hs10 e41 _ _ _ _) ?_
              rw [act1]
              refine r_aload_0 rfl ?_
              refine r_aload_0 rfl ?_
              refine r_getf rfl (a2.1) (by rfl) ?_
              refine r_push rfl ?_
              refine r_iald rfl (a2.2) (show (4 : Int32) = nI 4 from rfl) (by first | assumption | omega) (by first | decide | omega) ?_
              refine r_push rfl ?_
              refine r_isub rfl ?_
              rw [z7]
              refine r_push rfl ?_
              refine r_iload_3 rfl ?_
              refine r_invvV rfl rfl (a2.1) rfl rfl (by decide) (c_mlogs a2 _ _ _) ?_
              rw [act1]
              refine r_aload_0 rfl ?_
              refine r_getf rfl (a3.1) (by rfl) ?_
              refine r_push rfl ?_
              refine r_iald rfl (a3.2) (show (4 : Int32) = nI 4 from rfl) (by first | assumption | omega) (by first | decide | omega) ?_
              refine r_push rfl ?_
              refine r_isub rfl ?_
              rw [z8]
              refine r_iret rfl ?_
              rfl
theorem c_yPay (q : MM h y g m) (v : VR m) (qa : h.1 (y + 4) = some (.inl (0, 4428, .inl ac))) (e6 : g 6 = nI k) (hk : k ≤ 12) (z : Int32) : Ac G 4 m_X6_pay [.ref y, .int z] h y g ac m (payR m z.toNatClampNeg) k (qPay m z) := by
  have o := q.1; have oo := q.2
  have o1 := (q.thr (nI 1)).1; have o2 := (q.thr (nI 2)).1; have o3 := (q.thr (nI 0)).1
  have m3 := q.thr (nI 0)
  refine wc_in mt_X6_pay rfl (L := [.ref y, .int z, am_un, am_un]) rfl ?_
  unfold qPay
  cases e1 : inF z 0 (m 4 - 1) with
  | false =>
    rw [if_pos rfl]
    refine r_aload_0 rfl ?_
    refine r_aload_0 rfl ?_
    refine r_iload_1 rfl ?_
    refine r_invvP_1 rfl (o) rfl rfl (by decide) (c_mIsStone q z) ?_
    refine r_ifneF rfl (by rw [e1]; rfl) ?_
    refine r_push rfl ?_
    refine r_goto rfl ?_
    refine r_puti rfl (o) rfl ?_
    rw [mo_0]
    refine r_aload_0 rfl ?_
    refine r_getf rfl (o1) (by rfl) ?_
    refine r_ifleF rfl (by rw [upd_eq]; decide) ?_
    refine r_push rfl ?_
    refine r_iret rfl ?_
    rfl
  | true =>
    rw [if_neg (by decide)]
    have f1 := e1
    rw [v.ss.1] at f1
    have hS := v.ss.2
    have hP := v.pp.2
    obtain ⟨i, hi6, rfl⟩ := inF_nI (by omega) f1
    have hi9 : i < 10 := by omega
    obtain ⟨⟨a, ha, ea⟩, ⟨c, hc, ec⟩, -⟩ := v.st i hi6
    have ha6 : a < 6 := by omega
    have hc6 : c < 6 := by omega
    rw [nI_clamp (show i < 2 ^ 31 by omega), ea, nI_clamp (show a < 2 ^ 31 by omega)]
    have u0 : ∀ w, upd (upd g 0 (nI 0)) 0 w = upd g 0 w := fun w => upd_upd
    by_cases A : m (72 + 6 * i) = 2
    · rw [if_pos (Or.inl A)]
      refine r_aload_0 rfl ?_
      refine r_aload_0 rfl ?_
      refine r_iload_1 rfl ?_
      refine r_invvP_1 rfl (o) rfl rfl (by decide) (c_mIsStone q _) ?_
      refine r_ifneT rfl (by rw [e1]; decide) ?_
      refine r_push rfl ?_
      refine r_puti rfl (o) rfl ?_
      rw [mo_0]
      refine r_aload_0 rfl ?_
      refine r_getf rfl (o3) (by rfl) ?_
      refine r_ifleT rfl (by rw [upd_eq]; decide) ?_
      refine r_aload_0 rfl ?_
      refine r_iload_1 rfl ?_
      refine r_push rfl ?_
      refine r_invvP_2 rfl (o3) rfl rfl (by decide) (c_os0 m3 (by omega)) ?_
      rw [ea]
      refine r_istore_2 rfl ?_
      refine r_aload_0 rfl ?_
      refine r_iload_1 rfl ?_
      refine r_push rfl ?_
      refine r_invvP_2 rfl (o3) rfl rfl (by decide) (c_os2 m3 (by omega)) ?_
      refine r_istore_3 rfl ?_
      refine r_aload_0 rfl ?_
      refine r_aload_0 rfl ?_
      refine r_iload_1 rfl ?_
      refine r_push rfl ?_
      refine r_invvP_2 rfl (o3) rfl rfl (by decide) (c_os3 m3 (by omega)) ?_
      refine r_push rfl ?_
      refine r_iceqT rfl (A) ?_
      refine r_push rfl ?_
      refine r_goto rfl ?_
      refine r_puti rfl (o3) rfl ?_
      rw [mo_0, am_set_set, upd_upd]
      refine r_aload_0 rfl ?_
      refine r_getf rfl (o2) (by rfl) ?_
      refine r_ifleF rfl (by rw [upd_eq]; decide) ?_
      refine r_push rfl ?_
      refine r_iret rfl ?_
      rfl
    · by_cases B : m (33 + 6 * a) < m (71 + 6 * i)
      · rw [if_pos (Or.inr B)]
        refine r_aload_0 rfl ?_
        refine r_aload_0 rfl ?_
        refine r_iload_1 rfl ?_
        refine r_invvP_1 rfl (o) rfl rfl (by decide) (c_mIsStone q _) ?_
        refine r_ifneT rfl (by rw [e1]; decide) ?_
        refine r_push rfl ?_
        refine r_puti rfl (o) rfl ?_
        rw [mo_0]
        refine r_aload_0 rfl ?_
        refine r_getf rfl (o3) (by rfl) ?_
        refine r_ifleT rfl (by rw [upd_eq]; decide) ?_
        refine r_aload_0 rfl ?_
        refine r_iload_1 rfl ?_
        refine r_push rfl ?_
        refine r_invvP_2 rfl (o3) rfl rfl (by decide) (c_os0 m3 (by omega)) ?_
        rw [ea]
        refine r_istore_2 rfl ?_
        refine r_aload_0 rfl ?_
        refine r_iload_1 rfl ?_
        refine r_push rfl ?_
        refine r_invvP_2 rfl (o3) rfl rfl (by decide) (c_os2 m3 (by omega)) ?_
        refine r_istore_3 rfl ?_
        refine r_aload_0 rfl ?_
        refine r_aload_0 rfl ?_
        refine r_iload_1 rfl ?_
        refine r_push rfl ?_
        refine r_invvP_2 rfl (o3) rfl rfl (by decide) (c_os3 m3 (by omega)) ?_
        refine r_push rfl ?_
        refine r_iceqF rfl (A) ?_
        refine r_aload_0 rfl ?_
        refine r_iload_2 rfl ?_
        refine r_push rfl ?_
        refine r_invvP_2 rfl (o3) rfl rfl (by decide) (c_of0 m3 (by omega)) ?_
        refine r_iload_3 rfl ?_
        refine r_icgeF rfl (B) ?_
        refine r_push rfl ?_
        refine r_goto rfl ?_
        refine r_puti rfl (o3) rfl ?_
        rw [mo_0, am_set_set, upd_upd]
        refine r_aload_0 rfl ?_
        refine r_getf rfl (o2) (by rfl) ?_
        refine r_ifleF rfl (by rw [upd_eq]; decide) ?_
        refine r_push rfl ?_
        refine r_iret rfl ?_
        rfl
      · rw [if_neg (fun z => z.elim A B)]
        have a0 := actM (ac := ac) (k := k) q (m' := m)
        have a1 := actM (ac := ac) (k := k) q (m' := mvF m a c (m (71 + 6 * i)))
        have a2 := actM (ac := ac) (k := k) q (m' := upd (mvF m a c (m (71 + 6 * i))) (72 + 6 * i) 2)
        have a3 := actM (ac := ac) (k := k) q (m' := payR m i)
        have er : payR m i = tlF (upd (mvF m a c (m (71 + 6 * i))) (72 + 6 * i) 2) (nI i) 1 (m (71 + 6 * i)) := by unfold payR; rw [ea, ec, nI_clamp (show a < 2 ^ 31 by omega), nI_clamp (show c < 2 ^ 31 by omega)]
        refine r_aload_0 rfl ?_
        refine r_aload_0 rfl ?_
        refine r_iload_1 rfl ?_
        refine r_invvP_1 rfl (o) rfl rfl (by decide) (c_mIsStone q _) ?_
        refine r_ifneT rfl (by rw [e1]; decide) ?_
        refine r_push rfl ?_
        refine r_puti rfl (o) rfl ?_
        rw [mo_0]
        refine r_aload_0 rfl ?_
        refine r_getf rfl (o3) (by rfl) ?_
        refine r_ifleT rfl (by rw [upd_eq]; decide) ?_
        refine r_aload_0 rfl ?_
        refine r_iload_1 rfl ?_
        refine r_push rfl ?_
        refine r_invvP_2 rfl (o3) rfl rfl (by decide) (c_os0 m3 (by omega)) ?_
        rw [ea]
        refine r_istore_2 rfl ?_
        refine r_aload_0 rfl ?_
        refine r_iload_1 rfl ?_
        refine r_push rfl ?_
        refine r_invvP_2 rfl (o3) rfl rfl (by decide) (c_os2 m3 (by omega)) ?_
        refine r_istore_3 rfl ?_
        refine r_aload_0 rfl ?_
        refine r_aload_0 rfl ?_
        refine r_iload_1 rfl ?_
        refine r_push rfl ?_
        refine r_invvP_2 rfl (o3) rfl rfl (by decide) (c_os3 m3 (by omega)) ?_
        refine r_push rfl ?_
        refine r_iceqF rfl (A) ?_
        refine r_aload_0 rfl ?_
        refine r_iload_2 rfl ?_
        refine r_push rfl ?_
        refine r_invvP_2 rfl (o3) rfl rfl (by decide) (c_of0 m3 (by omega)) ?_
        refine r_iload_3 rfl ?_
        refine r_icgeT rfl (Int32.not_lt.mp B) ?_
        refine r_push rfl ?_
        refine r_puti rfl (o3) rfl ?_
        rw [mo_0, am_set_set, upd_upd]
        refine r_aload_0 rfl ?_
        refine r_getf rfl (o3) (by rfl) ?_
        refine r_ifleT rfl (by rw [upd_eq]; decide) ?_
        refine r_aload_0 rfl ?_
        refine r_invvV rfl rfl (o3) rfl rfl (by decide) (c_rem q qa e6 hk) ?_
        refine r_aload_0 rfl ?_
        refine r_iload_2 rfl ?_
        refine r_aload_0 rfl ?_
        refine r_iload_1 rfl ?_
        refine r_push rfl ?_
        refine r_invvP_2 rfl (a0.1) rfl rfl (by decide) (c_os1 a0 (by omega)) ?_
        rw [ec]
        refine r_iload_3 rfl ?_
        refine r_invvV rfl rfl (a0.1) rfl rfl (by decide) (c_mmoves a0 ha6 hc6 _) ?_
        rw [act1]
        refine r_aload_0 rfl ?_
        refine r_iload_1 rfl ?_
        refine r_push rfl ?_
        refine r_push rfl ?_
        refine r_invvV rfl rfl (a1.1) rfl rfl (by decide) (c_ps3 a1 (by omega)) ?_
        rw [act1]
        refine r_aload_0 rfl ?_
        refine r_iload_1 rfl ?_
        refine r_push rfl ?_
        refine r_iload_3 rfl ?_
        refine r_invvV rfl rfl (a2.1) rfl rfl (by decide) (c_mlogs a2 _ _ _) ?_
        rw [act1, ← er]
        refine r_aload_0 rfl ?_
        refine r_iload_2 rfl ?_
        refine r_push rfl ?_
        refine r_invvP_2 rfl (a3.1) rfl rfl (by decide) (c_of0 a3 (by omega)) ?_
        refine r_iret rfl ?_
        rfl
end
