/-! THE LAW's objects: what lies in the heap, what they answer -/
set_option maxRecDepth 100000
/-- a scene -/
def SC (h : am_H) (sc : Nat) (F : Fc) : Prop := h.1 sc = some (.inr (3, [.int (F 0), .int (F 1), .int (F 2), .int (F 3), .int (F 4), .int (F 5), .int (F 6), .int (F 7)])) ∧ (F 7 = 0 ∨ F 7 = 1) ∧ (F 8 = 1 ↔ F 1 = 0)
/-- a part, a sum, a condition (n deep at most); S: where their cells lie -/
def PtA (h : am_H) (S : Nat → Prop) (a : Nat) (t : Sm) : Prop := S a ∧ ((∃ n, h.1 a = some (.inr (14, [.int n, .null])) ∧ ∀ F, t F = n) ∨ (∃ k b v, k < 7 ∧ S b ∧ h.1 a = some (.inr (14, [.int 0, .ref b])) ∧ h.1 b = some (.inr (124, [v, .int (nI k)])) ∧ ∀ F, t F = F k))
def LsA (G : am_G) (bs : Nat) (h : am_H) (S : Nat → Prop) (la : Nat) (xs : List Nat) : Prop := S la ∧ ∃ arr, S arr ∧ AL G bs h la arr xs
def SmA (G : am_G) (bs : Nat) (h : am_H) (S : Nat → Prop) (a : Nat) (s : Sm) : Prop := S a ∧ ∃ la xs, ∃ ts : Nat → Sm, h.1 a = some (.inr (13, [.ref la])) ∧ LsA G bs h S la xs ∧ (∀ i (hi : i < xs.length), PtA h S xs[i] (ts i)) ∧ ∀ F, s F = smF (fun i => ts i F) xs.length
def rwF (all : Bool) (cs : Nat → Cd) : Nat → Cd
  | 0 => fun _ => all
  | k + 1 => fun F => if all = true then rwF all cs k F && cs k F else rwF all cs k F || cs k F
def CdA (G : am_G) (bs : Nat) (h : am_H) (S : Nat → Prop) : Nat → Nat → Cd → Prop
  | 0, _, _ => False
  | n + 1, a, c => S a ∧ ((∃ b : Bool, h.1 a = some (.inr (12, [.int (bI b)])) ∧ ∀ F, c F = (if b = true then decide (F 7 = 1) else decide (F 8 = 1)))
      ∨ (∃ x y s t, h.1 a = some (.inr (15, [.ref x, .ref y])) ∧ SmA G bs h S x s ∧ SmA G bs h S y t ∧ ∀ F, c F = decide (s F < t F))
      ∨ (∃ x c', h.1 a = some (.inr (11, [.ref x])) ∧ CdA G bs h S n x c' ∧ ∀ F, c F = !c' F)
      ∨ (∃ all la xs, ∃ cs : Nat → Cd, h.1 a = some (.inr (10, [.int (bI all), .ref la])) ∧ LsA G bs h S la xs ∧ (∀ i (hi : i < xs.length), CdA G bs h S n xs[i] (cs i)) ∧ ∀ F, c F = rwF all cs xs.length F))
def LnA (G : am_G) (bs : Nat) (h : am_H) (S : Nat → Prop) (a : Nat) (l : Ln) : Prop := S a ∧ ∃ kd v, G (gk l.1) = .ref kd ∧ l.1 < 3 ∧ h.1 a = some (.inr (9, [.ref kd, .int l.2.1, v])) ∧ ((v = .null ∧ ∀ F, l.2.2 F = true) ∨ ∃ c, v = .ref c ∧ CdA G bs h S 30 c l.2.2)
/-- the law at a: its lines -/
def LwA (G : am_G) (bs : Nat) (h : am_H) (S : Nat → Prop) (a : Nat) (ls : List Ln) : Prop := S a ∧ ∃ la xs, h.1 a = some (.inr (8, [.ref la])) ∧ LsA G bs h S la xs ∧ xs.length = ls.length ∧ ∀ i (hi : i < xs.length) (hj : i < ls.length), LnA G bs h S xs[i] ls[i]
section
variable {h h' : am_H} {G : am_G} {bs : Nat} {S S' : Nat → Prop}
/-- what lies in S stays -/
def SK (S : Nat → Prop) (h h' : am_H) : Prop := ∀ a e, S a → h.1 a = some e → h'.1 a = some e
theorem SK.refl : SK S h h := fun _ _ _ q => q
theorem PtA.keep {a : Nat} {t : Sm} (q : PtA h S a t) (k : SK S h h') (hs : ∀ a, S a → S' a) : PtA h' S' a t := by
  obtain ⟨q0, q⟩ := q
  refine ⟨hs _ q0, q.imp ?_ ?_⟩
  · rintro ⟨n, q1, q2⟩
    exact ⟨n, k _ _ q0 q1, q2⟩
  · rintro ⟨n, b, v, q1, q2, q3, q4, q5⟩
    exact ⟨n, b, v, q1, hs _ q2, k _ _ q0 q3, k _ _ q2 q4, q5⟩
theorem LsA.keep {la : Nat} {xs : List Nat} (q : LsA G bs h S la xs) (k : SK S h h') (hs : ∀ a, S a → S' a) : LsA G bs h' S' la xs := by
  obtain ⟨q0, arr, q1, mc, t, cap, f, q2, q3, q4⟩ := q
  exact ⟨hs _ q0, arr, hs _ q1, mc, t, cap, f, k _ _ q0 q2, k _ _ q1 q3, q4⟩
theorem SmA.keep {a : Nat} {t : Sm} (q : SmA G bs h S a t) (k : SK S h h') (hs : ∀ a, S a → S' a) : SmA G bs h' S' a t := by
  obtain ⟨q0, la, xs, ts, q1, q2, q3, q4⟩ := q
  exact ⟨hs _ q0, la, xs, ts, k _ _ q0 q1, q2.keep k hs, fun i hi => (q3 i hi).keep k hs, q4⟩
theorem CdA.keep (k : SK S h h') (hs : ∀ a, S a → S' a) : ∀ {n a : Nat} {c : Cd}, CdA G bs h S n a c → CdA G bs h' S' n a c
  | n + 1, a, c, q => by
    obtain ⟨q0, q⟩ := q
    refine ⟨hs _ q0, ?_⟩
    rcases q with ⟨b, q1, q2⟩ | ⟨x, y, s, t, q1, q2, q3, q4⟩ | ⟨x, c', q1, q2, q3⟩ | ⟨all, la, xs, cs, q1, q2, q3, q4⟩
    · exact Or.inl ⟨b, k _ _ q0 q1, q2⟩
    · exact Or.inr (Or.inl ⟨x, y, s, t, k _ _ q0 q1, q2.keep k hs, q3.keep k hs, q4⟩)
    · exact Or.inr (Or.inr (Or.inl ⟨x, c', k _ _ q0 q1, CdA.keep k hs q2, q3⟩))
    · exact Or.inr (Or.inr (Or.inr ⟨all, la, xs, cs, k _ _ q0 q1, q2.keep k hs, fun i hi => CdA.keep k hs (q3 i hi), q4⟩))
theorem CdA.succ : ∀ {n a : Nat} {c : Cd}, CdA G bs h S n a c → CdA G bs h S (n + 1) a c
  | n + 1, a, c, q => by
    obtain ⟨q0, q⟩ := q
    refine ⟨q0, ?_⟩
    rcases q with ⟨b, q1, q2⟩ | ⟨x, y, s, t, q1, q2, q3, q4⟩ | ⟨x, c', q1, q2, q3⟩ | ⟨all, la, xs, cs, q1, q2, q3, q4⟩
    · exact Or.inl ⟨b, q1, q2⟩
    · exact Or.inr (Or.inl ⟨x, y, s, t, q1, q2, q3, q4⟩)
    · exact Or.inr (Or.inr (Or.inl ⟨x, c', q1, CdA.succ q2, q3⟩))
    · exact Or.inr (Or.inr (Or.inr ⟨all, la, xs, cs, q1, q2, fun i hi => CdA.succ (q3 i hi), q4⟩))
theorem CdA.le {n m a : Nat} {c : Cd} (q : CdA G bs h S n a c) (hm : n ≤ m) : CdA G bs h S m a c := by
  induction hm with
  | refl => exact q
  | step _ ih => exact ih.succ
theorem LnA.keep {a : Nat} {l : Ln} (q : LnA G bs h S a l) (k : SK S h h') (hs : ∀ a, S a → S' a) : LnA G bs h' S' a l := by
  obtain ⟨q0, kd, v, q1, q2, q3, q4⟩ := q
  refine ⟨hs _ q0, kd, v, q1, q2, k _ _ q0 q3, q4.imp id ?_⟩
  rintro ⟨c, q5, q6⟩
  exact ⟨c, q5, q6.keep k hs⟩
theorem LwA.keep {a : Nat} {ls : List Ln} (q : LwA G bs h S a ls) (k : SK S h h') (hs : ∀ a, S a → S' a) : LwA G bs h' S' a ls := by
  obtain ⟨q0, la, xs, q1, q2, q3, q4⟩ := q
  exact ⟨hs _ q0, la, xs, k _ _ q0 q1, q2.keep k hs, q3, fun i hi hj => (q4 i hi hj).keep k hs⟩
end
section
variable {h : am_H} {G : am_G} {bs sc : Nat} {S : Nat → Prop} {F : Fc}
theorem c_sceneOf (q : SC h sc F) {k b : Nat} {v : Value} (hk : k < 7) (hb : h.1 b = some (.inr (124, [v, .int (nI k)]))) : Vc G 1 m_X4_of [.ref sc, .ref b] h (.int (F k)) := by
  have o := q.1
  have c0 : Vc G 0 m_J18_ordinal [.ref b] h (.int (nI k)) := by
    refine wc_in mt_J18_ordinal rfl (L := [.ref b]) rfl ?_
    refine r_aload_0 rfl ?_
    refine r_getfO rfl hb rfl rfl ?_
    exact r_iret rfl rfl
  refine wc_in mt_X4_of rfl (L := [.ref sc, .ref b]) rfl ?_
  refine r_aload_1 rfl ?_
  refine r_invvP_0 rfl hb rfl rfl (by decide) c0 ?_
  rcases (show k = 0 ∨ k = 1 ∨ k = 2 ∨ k = 3 ∨ k = 4 ∨ k = 5 ∨ k = 6 by omega) with rfl | rfl | rfl | rfl | rfl | rfl | rfl
  · refine r_sw (nx := 44) rfl rfl ?_
    refine r_aload_0 rfl ?_
    refine r_getf rfl (by assumption) (by rfl) ?_
    refine r_iret rfl ?_
    rfl
  · refine r_sw (nx := 49) rfl rfl ?_
    refine r_aload_0 rfl ?_
    refine r_getf rfl (by assumption) (by rfl) ?_
    refine r_iret rfl ?_
    rfl
  · refine r_sw (nx := 54) rfl rfl ?_
    refine r_aload_0 rfl ?_
    refine r_getf rfl (by assumption) (by rfl) ?_
    refine r_iret rfl ?_
    rfl
  · refine r_sw (nx := 59) rfl rfl ?_
    refine r_aload_0 rfl ?_
    refine r_getf rfl (by assumption) (by rfl) ?_
    refine r_iret rfl ?_
    rfl
  · refine r_sw (nx := 64) rfl rfl ?_
    refine r_aload_0 rfl ?_
    refine r_getf rfl (by assumption) (by rfl) ?_
    refine r_iret rfl ?_
    rfl
  · refine r_sw (nx := 69) rfl rfl ?_
    refine r_aload_0 rfl ?_
    refine r_getf rfl (by assumption) (by rfl) ?_
    refine r_iret rfl ?_
    rfl
  · refine r_sw (nx := 74) rfl rfl ?_
    refine r_aload_0 rfl ?_
    refine r_getf rfl (by assumption) (by rfl) ?_
    refine r_iret rfl ?_
    rfl
theorem c_part (q : SC h sc F) {a : Nat} {t : Sm} (p : PtA h S a t) : ∃ fs, h.1 a = some (.inr (14, fs)) ∧ Vc G 2 m_X15_in [.ref a, .ref sc] h (.int (t F)) := by
  obtain ⟨p0, ⟨n, p1, p2⟩ | ⟨k, b, v, p1, pS, p2, p3, p4⟩⟩ := p
  · refine ⟨_, p1, ?_⟩
    rw [p2]
    refine wc_in mt_X15_in rfl (L := [.ref a, .ref sc]) rfl ?_
    refine r_aload_0 rfl ?_
    refine r_getf rfl (by assumption) (by rfl) ?_
    refine r_ifnonnullF rfl ?_
    refine r_aload_0 rfl ?_
    refine r_getf rfl (by assumption) (by rfl) ?_
    refine r_goto rfl ?_
    refine r_iret rfl ?_
    rfl
  · refine ⟨_, p2, ?_⟩
    rw [p4]
    refine wc_in mt_X15_in rfl (L := [.ref a, .ref sc]) rfl ?_
    refine r_aload_0 rfl ?_
    refine r_getf rfl p2 rfl ?_
    refine r_ifnonnullT rfl ?_
    refine r_aload_1 rfl ?_
    refine r_aload_0 rfl ?_
    refine r_getf rfl p2 rfl ?_
    refine r_invvP_1 rfl q.1 rfl rfl (by decide) (c_sceneOf q p1 p3) ?_
    exact r_iret rfl rfl
theorem LsA.al {la : Nat} {xs : List Nat} (q : LsA G bs h S la xs) : ∃ fs arr, h.1 la = some (.inr (4, fs)) ∧ AL G bs h la arr xs ∧ xs.length ≤ 600 := by
  obtain ⟨q0, arr, q1, q2⟩ := q
  obtain ⟨mc, t, cap, f, o, -, -, ⟨l1, l2⟩, -⟩ := id q2
  exact ⟨_, arr, o, q2, by omega⟩
theorem c_sumIn (q : SC h sc F) {a : Nat} {s : Sm} (p : SmA G bs h S a s) : ∃ fs, h.1 a = some (.inr (13, fs)) ∧ Vc G 3 m_X14_in [.ref a, .ref sc] h (.int (s F)) := by
  obtain ⟨p0, la, xs, ts, p1, p2, p3, p4⟩ := p
  obtain ⟨fs, arr, ol, al, hl⟩ := p2.al
  refine ⟨_, p1, ?_⟩
  rw [p4]
  refine wc_in mt_X14_in rfl (L := [.ref a, .ref sc, am_un, am_un]) rfl ?_
  refine r_push rfl ?_
  refine r_istore_2 rfl ?_
  refine r_push rfl ?_
  refine r_istore_3 rfl ?_
  refine wp_for xs.length (fun j => [.ref a, .ref sc, .int (smF (fun i => ts i F) j), .int (nI j)]) (fun j hj k => ?_) ?_
  · obtain ⟨fp, op, cp⟩ := c_part (G := G) q (p3 j hj)
    simp only [smF, nI_succ] at k
    refine r_iload_3 rfl ?_
    refine r_aload_0 rfl ?_
    refine r_getf rfl (by assumption) (by rfl) ?_
    refine r_invvP_0 rfl (by assumption) rfl rfl (by decide) (c_alSize al) ?_
    refine r_icgeF rfl (nI_lt hj (by omega)) ?_
    refine r_iload_2 rfl ?_
    refine r_aload_0 rfl ?_
    refine r_getf rfl (by assumption) (by rfl) ?_
    refine r_iload_3 rfl ?_
    refine r_invvP_1 rfl (by assumption) rfl rfl (by decide) (c_alGet al hj) ?_
    refine r_cast rfl (by assumption) rfl ?_
    refine r_aload_1 rfl ?_
    refine r_invvP_1 rfl (by assumption) rfl rfl (by decide) (cp) ?_
    refine r_iadd rfl ?_
    refine r_istore_2 rfl ?_
    refine r_iinc_3 rfl ?_
    refine r_goto rfl ?_
    exact k
  · refine r_iload_3 rfl ?_
    refine r_aload_0 rfl ?_
    refine r_getf rfl (by assumption) (by rfl) ?_
    refine r_invvP_0 rfl (by assumption) rfl rfl (by decide) (c_alSize al) ?_
    refine r_icgeT rfl (Int32.le_refl _) ?_
    refine r_iload_2 rfl ?_
    refine r_iret rfl ?_
    rfl
theorem rw_all {all : Bool} {cs : Nat → Cd} : ∀ {n : Nat}, (∀ i, i < n → cs i F = all) → rwF all cs n F = all
  | 0, _ => rfl
  | n + 1, h => by
    show (if all = true then rwF all cs n F && cs n F else rwF all cs n F || cs n F) = all
    rw [rw_all (fun i q => h i (by omega)), h n (by omega)]
    cases all <;> rfl
theorem rw_not {all : Bool} {cs : Nat → Cd} : ∀ {n j : Nat}, j < n → cs j F ≠ all → rwF all cs n F = !all
  | n + 1, j, h, q => by
    show (if all = true then rwF all cs n F && cs n F else rwF all cs n F || cs n F) = !all
    by_cases z : j = n
    · subst z
      have e : cs j F = !all := by cases all <;> cases hc : cs j F <;> simp_all
      rw [e]
      cases all <;> simp
    · rw [rw_not (show j < n by omega) q]
      cases all <;> simp
abbrev dsH : List (Nat × Nat) := [(10, m_X11_holds), (11, m_X12_holds), (12, m_X13_holds), (15, m_X17_holds)]
theorem bI_eq {a b : Bool} : bI a = bI b ↔ a = b := by cases a <;> cases b <;> decide
/-- a condition holds -/
theorem c_holds (q : SC h sc F) : ∀ (n : Nat) {a : Nat} {c : Cd}, CdA G bs h S n a c → ∃ cl fs k, h.1 a = some (.inr (cl, fs)) ∧ am_in cl [10, 11, 12, 15] = true ∧ am_dp cl dsH = some k ∧ Vc G (3 + n) k [.ref a, .ref sc] h (.int (bI (c F)))
  | n + 1, a, c, p => by
    obtain ⟨o, hF7, hF8⟩ := q
    have q : SC h sc F := ⟨o, hF7, hF8⟩
    obtain ⟨p0, p⟩ := p
    rcases p with ⟨b, p1, p2⟩ | ⟨x, y, s, t, p1, p2, p3, p4⟩ | ⟨x, c', p1, p2, p3⟩ | ⟨all, la, xs, cs, p1, p2, p3, p4⟩
    · refine ⟨12, _, _, p1, rfl, rfl, ?_⟩
      rw [p2]
      refine wc_in mt_X13_holds rfl (L := [.ref a, .ref sc]) rfl ?_
      cases b
      · refine r_aload_0 rfl ?_
        refine r_getf rfl (by assumption) (by rfl) ?_
        refine r_ifeqT rfl (rfl) ?_
        refine r_aload_1 rfl ?_
        refine r_getf rfl (by assumption) (by rfl) ?_
        refine r_ifne rfl (fun c_18 => ?_) (fun c_18 => ?_)
        · refine r_push rfl ?_
          refine r_zret rfl (by first | decide | assumption) ?_
          rw [if_neg (by decide)]; first | (rw [decide_eq_true (hF8.mpr c_18)]; rfl) | (rw [decide_eq_false (fun z => c_18 (hF8.mp z))]; rfl)
        · refine r_push rfl ?_
          refine r_goto rfl ?_
          refine r_zret rfl (by first | decide | assumption) ?_
          rw [if_neg (by decide)]; first | (rw [decide_eq_true (hF8.mpr c_18)]; rfl) | (rw [decide_eq_false (fun z => c_18 (hF8.mp z))]; rfl)
      · refine r_aload_0 rfl ?_
        refine r_getf rfl (by assumption) (by rfl) ?_
        refine r_ifeqF rfl (by decide) ?_
        refine r_aload_1 rfl ?_
        refine r_getf rfl (by assumption) (by rfl) ?_
        refine r_goto rfl ?_
        refine r_zret rfl (hF7) ?_
        rw [if_pos rfl]; rcases hF7 with z | z <;> rw [z] <;> rfl
    · refine ⟨15, _, _, p1, rfl, rfl, ?_⟩
      obtain ⟨f1, o1, c1⟩ := c_sumIn (G := G) q p2
      obtain ⟨f2, o2, c2⟩ := c_sumIn (G := G) q p3
      rw [p4]
      refine wc_in mt_X17_holds rfl (L := [.ref a, .ref sc]) rfl ?_
      refine r_aload_0 rfl ?_
      refine r_getf rfl p1 rfl ?_
      refine r_aload_1 rfl ?_
      refine r_invvP_1 rfl o1 rfl rfl (by omega) c1 ?_
      refine r_aload_0 rfl ?_
      refine r_getf rfl p1 rfl ?_
      refine r_aload_1 rfl ?_
      refine r_invvP_1 rfl o2 rfl rfl (by omega) c2 ?_
      refine r_icge rfl (fun c_16 => ?_) (fun c_16 => ?_)
      · refine r_push rfl ?_
        refine r_zret rfl (by first | decide | assumption) ?_
        first | (rw [decide_eq_true c_16]; rfl) | (rw [decide_eq_false (Int32.not_lt.mpr c_16)]; rfl)
      · refine r_push rfl ?_
        refine r_goto rfl ?_
        refine r_zret rfl (by first | decide | assumption) ?_
        first | (rw [decide_eq_true c_16]; rfl) | (rw [decide_eq_false (Int32.not_lt.mpr c_16)]; rfl)
    · refine ⟨11, _, _, p1, rfl, rfl, ?_⟩
      obtain ⟨cl, fs, k, o1, -, k1, c1⟩ := c_holds q n p2
      rw [p3]
      refine wc_in mt_X12_holds rfl (L := [.ref a, .ref sc]) rfl ?_
      refine r_aload_0 rfl ?_
      refine r_getf rfl p1 rfl ?_
      refine r_aload_1 rfl ?_
      refine r_invvP_1 rfl o1 k1 rfl (by omega) c1 ?_
      refine r_ifne rfl (fun c_10 => ?_) (fun c_10 => ?_)
      · refine r_push rfl ?_
        refine r_zret rfl (by first | decide | assumption) ?_
        first | (rw [bI_n0.mp c_10]; rfl) | (rw [bI_0.mp c_10]; rfl)
      · refine r_push rfl ?_
        refine r_goto rfl ?_
        refine r_zret rfl (by first | decide | assumption) ?_
        first | (rw [bI_n0.mp c_10]; rfl) | (rw [bI_0.mp c_10]; rfl)
    · refine ⟨10, _, _, p1, rfl, rfl, ?_⟩
      obtain ⟨fs, arr, ol, al, hl⟩ := p2.al
      rw [p4]
      refine wc_in mt_X11_holds rfl (L := [.ref a, .ref sc, am_un]) rfl ?_
      refine r_push rfl ?_
      refine r_istore_2 rfl ?_
      refine wp_forK xs.length (fun j => [.ref a, .ref sc, .int (nI j)]) (fun j => ∀ i, i < j → cs i F = all) (fun i z => absurd z (by omega)) (fun j hj hk k => ?_) (fun hk => ?_)
      · obtain ⟨cl, fs1, k1, o1, i1, d1, c1⟩ := c_holds q n (p3 j hj)
        refine r_iload_2 rfl ?_
        refine r_aload_0 rfl ?_
        refine r_getf rfl p1 rfl ?_
        refine r_invvP_0 rfl ol rfl rfl (e := 0) (by omega) (c_alSize al) ?_
        refine r_icgeF rfl (nI_lt hj (by omega)) ?_
        refine r_aload_0 rfl ?_
        refine r_getf rfl p1 rfl ?_
        refine r_iload_2 rfl ?_
        refine r_invvP_1 rfl ol rfl rfl (e := 2) (by omega) (c_alGet al hj) ?_
        refine r_cast rfl o1 i1 ?_
        refine r_aload_1 rfl ?_
        refine r_invvP_1 rfl o1 d1 rfl (by omega) c1 ?_
        refine r_aload_0 rfl ?_
        refine r_getf rfl (by assumption) (by rfl) ?_
        refine r_iceq rfl (fun c_34 => ?_) (fun c_34 => ?_)
        · refine r_iinc_2 rfl ?_
          refine r_goto rfl ?_
          rw [nI_1]
          refine k (fun i z => ?_)
          by_cases y : i = j
          · rw [y]; exact bI_eq.mp c_34
          · exact hk i (by omega)
        · refine r_aload_0 rfl ?_
          refine r_getf rfl (by assumption) (by rfl) ?_
          refine r_ifne rfl (fun c_41 => ?_) (fun c_41 => ?_)
          · refine r_push rfl ?_
            refine r_zret rfl (by first | exact Or.inl rfl | exact Or.inr rfl) ?_
            rw [rw_not hj (fun z => c_34 (bI_eq.mpr z))]
            first | (rw [bI_n0.mp c_41]; rfl) | (rw [bI_0.mp c_41]; rfl)
          · refine r_push rfl ?_
            refine r_goto rfl ?_
            refine r_zret rfl (by first | exact Or.inl rfl | exact Or.inr rfl) ?_
            rw [rw_not hj (fun z => c_34 (bI_eq.mpr z))]
            first | (rw [bI_n0.mp c_41]; rfl) | (rw [bI_0.mp c_41]; rfl)
      · refine r_iload_2 rfl ?_
        refine r_aload_0 rfl ?_
        refine r_getf rfl p1 rfl ?_
        refine r_invvP_0 rfl ol rfl rfl (e := 0) (by omega) (c_alSize al) ?_
        refine r_icgeT rfl (Int32.le_refl _) ?_
        refine r_aload_0 rfl ?_
        refine r_getf rfl (by assumption) (by rfl) ?_
        refine r_zret rfl (bI_01 _) ?_
        rw [rw_all hk]
end
