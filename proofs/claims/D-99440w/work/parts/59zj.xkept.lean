/-! THE SYSTEM: seed, undo, image, back -/
set_option maxRecDepth 100000
section
variable {G : am_G} {bs x : Nat} {S : Nat → Prop} {hi : Bool} {h h1 h2 : am_H} {m m' mi b b' bi mt bt : Nat → Int32} {l li lt : Value} {ws ws' : List (Nat × (Nat → Int32))} {a : Nat}
theorem c_xSeed (q : HS G bs x (x + 1) S hi h m b l) (gx : bs ≤ x) (sg : SG bs x S h) (n : Int32) : Ev G 0 m_X1_seed [.ref x, .int n] h (fun v h' => v = .int (m 8) ∧ HS G bs x (x + 1) S hi h' (upd m 8 n) b l ∧ HF (InW (x + 1)) 0 0 h h') := by
  have Q := q
  obtain ⟨q1, v, yb, q4, q5, q6, o, s0, q8⟩ := q
  have o0 := wa_o q1
  have f := q1.hf q5 (i := 0) (x := .inr (1, wobj (x + 1) (upd m 8 n) l)) (by decide)
  refine wc_in mt_X1_seed rfl (L := [.ref x, .int n, am_un]) rfl ?_
  refine r_aload_0 rfl ?_
  refine r_getf rfl (by assumption) (by rfl) ?_
  refine r_getf rfl (by assumption) (by rfl) ?_
  refine r_istore_2 rfl ?_
  refine r_aload_0 rfl ?_
  refine r_getf rfl (by assumption) (by rfl) ?_
  refine r_iload_1 rfl ?_
  refine r_puti rfl (by assumption) rfl ?_
  refine r_iload_2 rfl ?_
  refine r_iret rfl ?_
  exact ⟨_, _, rfl, rfl, Q.wb (geo gx sg (by omega)) f (q1.ob (k := 8) (by decide)) (v.u (by omega)) (yb.u v.ss.2 (by omega)) (upd_ne (by omega)) (upd_ne (by omega)) (fun k hk => upd_ne (by omega)), f⟩
/-- world, the last remembered one -/
theorem WB.last (W : WB G bs x S h l m ws) (h0 : ws ≠ []) : ∃ us p, ws = us ++ [p] := by
  rcases List.eq_nil_or_concat ws with z | ⟨us, p, z⟩
  · exact absurd z h0
  · exact ⟨us, p, by rw [z, List.concat_eq_append]⟩
theorem c_xUndo (q : HS G bs x (x + 1) S hi h m b l) (gx : bs ≤ x) (sg : SG bs x S h) (W : WB G bs x S h l m ws) : Ev G 9 m_X1_undo [.ref x] h (fun v h' => (ws = [] ∧ v = .int 0 ∧ h' = h) ∨ (∃ us p b', ws = us ++ [p] ∧ v = .int 1 ∧ MR m p.2 ∧ HS G bs x (x + 1) S hi h' p.2 b' l ∧ WB G bs x S h' l p.2 us ∧ HF (RP1 x S) 0 0 h h')) := by
  have Q := q
  have W0 := W
  obtain ⟨q1, v, yb, q4, q5, q6, o, s0, q8⟩ := q
  obtain ⟨arr, e1, e2, e3, e4, e5⟩ := W
  have E1 := e1
  obtain ⟨mc, t, cap, f, oA, oR, -⟩ := E1
  have lenW : (ws.map Prod.fst).length = ws.length := List.length_map _
  refine wc_in mt_X1_undo rfl (L := [.ref x]) rfl ?_
  by_cases c : ws = []
  · refine r_aload_0 rfl ?_
    refine r_getf rfl (by assumption) (by rfl) ?_
    refine r_invvP_0 rfl (oA) rfl rfl (by decide) (c_alEmpty e1 (by omega)) ?_
    refine r_ifeqF rfl (by rw [lenW, c]; decide) ?_
    refine r_push rfl ?_
    refine r_zret rfl (by first | decide | assumption) ?_
    exact ⟨_, _, rfl, Or.inl ⟨c, rfl, rfl⟩⟩
  · obtain ⟨us, p, rfl⟩ := W0.last c
    have lenU : ((us ++ [p]).map Prod.fst).length = us.length + 1 := by rw [lenW, List.length_append]; rfl
    obtain ⟨w1, w2, w3, ⟨bp, w4, w5⟩, w6⟩ := e4 p (List.mem_append_right _ (List.mem_singleton_self p))
    have go : ((us ++ [p]).map Prod.fst).eraseIdx us.length = us.map Prod.fst := by
      rw [List.map_append, List.eraseIdx_append_of_length_le (by rw [List.length_map]; exact Nat.le_refl _), List.length_map, Nat.sub_self]
      simp
    have gv : ∀ (i : Nat) (hi : i < ((us ++ [p]).map Prod.fst).length), i = us.length → ((us ++ [p]).map Prod.fst)[i] = p.1 := by
      rintro i hi rfl
      simp
    refine r_aload_0 rfl ?_
    refine r_getf rfl (by assumption) (by rfl) ?_
    refine r_invvP_0 rfl (oA) rfl rfl (by decide) (c_alEmpty e1 (by omega)) ?_
    refine r_ifeqT rfl (by rw [lenU, decide_eq_false (by omega)]; rfl) ?_
    refine r_aload_0 rfl ?_
    refine r_getf rfl o rfl ?_
    refine r_aload_0 rfl ?_
    refine r_getf rfl o rfl ?_
    refine r_aload_0 rfl ?_
    refine r_getf rfl o rfl ?_
    refine r_invvP_0 rfl oA rfl rfl (by decide) (c_alSize e1) ?_
    refine r_push rfl ?_
    refine r_isub rfl ?_
    rw [lenU, show (1 : Int32) = nI 1 from rfl, nI_sub (by omega), Nat.add_sub_cancel]
    refine r_invvE rfl rfl oA rfl rfl (by decide) (c_alRemove e1 q5 (i := us.length) (by omega) (by omega)) ?_
    rintro v1 h1 ⟨ev, z1, A1, F1⟩
    rw [gv _ _ rfl] at ev
    subst ev
    rw [go] at A1
    have hF1 : ∀ z, ALP bs (x + 64) arr z → z = x + 64 ∨ z = arr ∧ x + 98 ≤ arr ∧ ¬ S arr := fun z hz => by
      rcases hz with hz | ⟨hz, hy⟩
      · exact Or.inl hz
      · rcases e3 with e3 | e3
        · exact Or.inr ⟨hz, e3⟩
        · omega
    have kw : ∀ {p2 : Nat × (Nat → Int32)} {b3 : Nat → Int32}, WA h p2.1 p2.2 b3 l → x + 98 ≤ p2.1 → (p2.1 + 15 ≤ arr ∨ arr < p2.1) → WA h1 p2.1 p2.2 b3 l := fun wp hx hy => wp.keep F1 (fun z hz => by have := hF1 z hz; omega)
    have K1 : HS G bs x (x + 1) S hi h1 m b l := Q.kp F1 (fun z hz => by
      have sgz := sg z
      unfold InW
      rcases hF1 z hz with hz | ⟨hz, hy, hs⟩
      · exact ⟨by omega, by omega, by omega, by omega, fun y => by have := sgz y; omega⟩
      · exact ⟨by omega, by omega, by omega, by omega, by rw [hz]; exact hs⟩)
    have w41 := kw w4 w1 w2
    have K1' := K1
    obtain ⟨k1, -, -, k4, k5, k6, k7, s1, k8⟩ := K1'
    obtain ⟨m1, m2, m3, m4, m5⟩ := w6
    refine r_cast rfl (wa_o w41) rfl ?_
    refine r_invvE rfl rfl (wa_o k1) rfl rfl (by decide) (c_likens k1 w41 k5 (by omega) k4.v) ?_
    rintro v2 h2 ⟨rfl, wa2, F2⟩
    refine r_popR rfl ?_
    refine r_push rfl ?_
    refine r_zret rfl (by decide) ?_
    have sk : SK S h1 h2 := F2.sk (fun z sz hz => by have := (sg z sz).1; unfold InW at hz; omega)
    refine ⟨_, _, rfl, Or.inr ⟨us, p, bp, rfl, rfl, ⟨m1, m2, m3, m4, m5⟩, ⟨wa2, m1, w5, k4.keep sk m3 m4 m5, F2.w, k6.keep F2 (fun z hz => by unfold InW at hz; omega), F2.k k7 (by unfold InW; omega), s1, F2.k k8 (by unfold InW; omega)⟩, ?_, ?_⟩⟩
    · refine ⟨arr, A1.keep F2 (fun z => by unfold InW at z; omega) (fun z => by unfold InW at z; omega), (by have : us.length + 1 ≤ 12 := (by rw [← lenU, lenW]; exact e2); omega), e3, fun r hr => ?_, (List.pairwise_append.mp e5).1⟩
      obtain ⟨r1, r2, r3, ⟨b3, r4, r5⟩, r6, r7, r8, r9, r10⟩ := e4 r (List.mem_append_left _ hr)
      exact ⟨r1, r2, r3, ⟨b3, (kw r4 r1 r2).keep F2 (fun z hz => by unfold InW at hz; omega), r5⟩, r6, r7, r8.trans m3.symm, r9.trans m4.symm, fun k hk => (r10 k hk).trans (m5 k hk).symm⟩
    · refine (HF.trans (F1.mono (fun z hz => ?_) (Nat.le_refl _) (Nat.le_refl _)) (F2.mono (fun z hz => Or.inl (Or.inl hz)) (Nat.le_refl _) (Nat.le_refl _))).mono (fun _ z => z) (Nat.le_refl _) (Nat.le_refl _)
      rcases hF1 z hz with hz | ⟨hz, hy, hs⟩
      · exact Or.inr (Or.inl hz)
      · exact Or.inr (Or.inr ⟨by omega, by rw [hz]; exact hs⟩)
/-- what the image writes -/
def IP (x : Nat) : Nat → Prop := fun a => a = x ∨ InW (x + 31) a
theorem c_xImage (q : HS G bs x (x + 1) S hi h m b l) (gx : bs ≤ x) (sg : SG bs x S h) (qi : WA h (x + 31) mt bt lt) : En G 2 m_X1_image [.ref x] h (fun h' => HS G bs x (x + 1) S true h' m b l ∧ WA h' (x + 31) m b l ∧ HF (IP x) 0 0 h h') := by
  obtain ⟨q1, v, yb, q4, q5, q6, o, s0, q8⟩ := q
  have f1 : HF (fun a => a = x) 0 0 h (am_set h x (.inr (0, xobj x true))) := HF.set q5 o
  have k1 := q1.keep f1 (fun a z => by omega)
  have ki := qi.keep f1 (fun a z => by omega)
  refine wc_in mt_X1_image rfl (L := [.ref x]) rfl ?_
  refine r_aload_0 rfl ?_
  refine r_push rfl ?_
  refine r_putz rfl (o) (by decide) rfl ?_
  refine r_aload_0 rfl ?_
  refine r_getf rfl (am_set_at) (by rfl) ?_
  refine r_aload_0 rfl ?_
  refine r_getf rfl (am_set_at) (by rfl) ?_
  refine r_invvE rfl rfl (wa_o ki) rfl rfl (by decide) (c_likens ki k1 f1.w (by omega) q4.v) ?_
  rintro v2 h2 ⟨rfl, wa2, F2⟩
  refine r_popR rfl ?_
  refine r_vret rfl ?_
  have F : HF (IP x) 0 0 h h2 := (HF.trans (f1.mono (fun a z => Or.inl z) (Nat.le_refl _) (Nat.le_refl _)) (F2.mono (fun a z => Or.inr z) (Nat.le_refl _) (Nat.le_refl _))).mono (fun _ z => z) (Nat.le_refl _) (Nat.le_refl _)
  refine ⟨_, rfl, ⟨k1.keep F2 (fun a z => by unfold InW at z; omega), v, yb, q4.keep (F.sk (fun a z y => ?_)) rfl rfl (fun _ _ => rfl), F2.w, q6.keep F (fun a z => ?_), F2.k am_set_at (by unfold InW; omega), s0, F.k q8 (by unfold IP InW; omega)⟩, wa2, F⟩
  · have := (sg a z).1; unfold IP InW at y; omega
  · unfold IP InW at z; omega
theorem c_xBack (q : HS G bs x (x + 1) S hi h m b l) (gx : bs ≤ x) (sg : SG bs x S h) (W : WB G bs x S h l m ws) (qi : WA h (x + 31) mi bi li) (vi : hi = true → VR mi ∧ BY bi mi ∧ LO G bs h S mi li) : Ev G 2 m_X1_back [.ref x] h (fun v h' => (hi = false ∧ v = .int 0 ∧ h' = h) ∨ (hi = true ∧ v = .int 1 ∧ HS G bs x (x + 1) S hi h' mi bi li ∧ WB G bs x S h' li mi [] ∧ HF (RP1 x S) 0 0 h h')) := by
  have Q := q
  obtain ⟨q1, v, yb, q4, q5, q6, o, s0, q8⟩ := q
  obtain ⟨arr, e1, e2, e3, e4, e5⟩ := W
  have lenW : (ws.map Prod.fst).length = ws.length := List.length_map _
  refine wc_in mt_X1_back rfl (L := [.ref x]) rfl ?_
  cases hi with
  | false =>
    refine r_aload_0 rfl ?_
    refine r_getf rfl (by assumption) (by rfl) ?_
    refine r_ifneF rfl (rfl) ?_
    refine r_push rfl ?_
    refine r_zret rfl (by first | decide | assumption) ?_
    exact ⟨_, _, rfl, Or.inl ⟨rfl, rfl, rfl⟩⟩
  | true =>
    obtain ⟨v2, y2, lo2⟩ := vi rfl
    refine r_aload_0 rfl ?_
    refine r_getf rfl (by assumption) (by rfl) ?_
    refine r_ifneT rfl (by decide) ?_
    refine r_aload_0 rfl ?_
    refine r_getf rfl (by assumption) (by rfl) ?_
    refine r_aload_0 rfl ?_
    refine r_getf rfl (by assumption) (by rfl) ?_
    refine r_invvE rfl rfl (wa_o q1) rfl rfl (by decide) (c_likens q1 qi q5 (by omega) lo2.v) ?_
    rintro v2' h2 ⟨rfl, wa2, F2⟩
    refine r_popR rfl ?_
    have o2 := F2.k o (by unfold InW; omega)
    have e12 := e1.keep F2 (fun z => by unfold InW at z; omega) (fun z => by unfold InW at z; omega)
    have E1 := e12
    obtain ⟨mc, t, cap, f, oA, oR, -⟩ := E1
    refine r_aload_0 rfl ?_
    refine r_getf rfl (by assumption) (by rfl) ?_
    refine r_invvF rfl rfl (oA) rfl rfl (by decide) (c_alClear e12 F2.w (by omega)) ?_
    rintro h3 ⟨A3, F3⟩
    refine r_push rfl ?_
    refine r_zret rfl (by first | decide | assumption) ?_
    have hF3 : ∀ z, ALP bs (x + 64) arr z → RP x S z := fun z hz => by
      rcases hz with hz | ⟨hz, hy⟩
      · exact Or.inl hz
      · rcases e3 with e3 | e3
        · exact Or.inr ⟨by omega, by rw [hz]; exact e3.2⟩
        · omega
    have F : HF (RP1 x S) 0 0 h h3 := (HF.trans (F2.mono (fun z hz => Or.inl (Or.inl hz)) (Nat.le_refl _) (Nat.le_refl _)) (F3.mono (fun z hz => Or.inr (hF3 z hz)) (Nat.le_refl _) (Nat.le_refl _))).mono (fun _ z => z) (Nat.le_refl _) (Nat.le_refl _)
    have nS : ∀ z, S z → ¬ RP1 x S z := fun z sz hz => by
      have := (sg z sz).1
      rcases hz with hz | hz | hz
      · unfold HP InW at hz; omega
      · omega
      · exact hz.2 sz
    refine ⟨_, _, rfl, Or.inr ⟨rfl, rfl, ⟨wa2.keep F3 (fun z hz => ?_), v2, y2, lo2.keep (F.sk nS) rfl rfl (fun _ _ => rfl), F3.w, q6.keep F (fun z hz => ?_), F3.k o2 (fun hz => ?_), s0, F3.k (F2.k q8 (by unfold InW; omega)) (fun hz => ?_)⟩, ⟨arr, A3, by decide, e3, fun p hp => absurd hp (by simp), List.Pairwise.nil⟩, F⟩⟩
    · have := hF3 z hz; unfold RP at this; omega
    · unfold RP1 HP InW RP at hz; omega
    · have := hF3 _ hz; unfold RP at this; omega
    · have := hF3 _ hz; unfold RP at this; omega
end
