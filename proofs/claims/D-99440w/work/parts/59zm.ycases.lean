/-! SCALES: cases that can be, of the model -/
set_option maxRecDepth 100000
/-- cases as bits: 10 that none is hollow -/
def csB (m T : Nat → Int32) (n k : Nat) : Bool := if k < nS m then caseB m T n (some k) else if k = 10 then caseB m T n none else false
def csI (m T : Nat → Int32) (n : Nat) : Int32 := bsF (csB m T n) 11
theorem bsF_pad {c : Nat → Bool} {s : Nat} : ∀ n, (∀ k, s ≤ k → k < s + n → c k = false) → bsF c (s + n) = bsF c s
  | 0, _ => rfl
  | n + 1, h => by rw [← Nat.add_assoc, bsF_f0 (h _ (by omega) (by omega)), bsF_pad n (fun k h1 h2 => h k h1 (by omega))]
theorem csI_eq {m T : Nat → Int32} {n : Nat} (hS : nS m ≤ 10) : csI m T n = bsF (fun s => caseB m T n (some s)) (nS m) ||| (if caseB m T n none = true then (1 : Int32) <<< (10 &&& 31) else 0) := by
  have e1 : bsF (csB m T n) 10 = bsF (fun s => caseB m T n (some s)) (nS m) := by
    have : 10 = nS m + (10 - nS m) := by omega
    rw [this, bsF_pad _ (fun k h1 h2 => by unfold csB; rw [if_neg (by omega), if_neg (by omega)])]
    exact bsF_congr fun k hk => by unfold csB; rw [if_pos hk]
  have e2 : csB m T n 10 = caseB m T n none := by unfold csB; rw [if_neg (by omega), if_pos rfl]
  unfold csI
  cases e3 : caseB m T n none with
  | true => rw [bsF_t (e2.trans e3), e1, if_pos rfl]; rfl
  | false => rw [bsF_f (e2.trans e3), e1, if_neg (by decide)]
section
variable {G : am_G} {h : am_H} {y : Nat} {m g T : Nat → Int32} {n : Nat}
theorem c_yCases (q : MM h y g m) (v : VR m) (qt : h.1 (y + 5) = some (.inl (0, 400, .inl T))) (tb : TB T) (e8 : g 8 = nI n) (hn : n ≤ 400) : Uc G 5 m_X6_cases [.ref y] h (.int (if goodB m T n = true then csI m T n else -1)) (mh h y (upd g 8 0)) := by
  have o := q.1
  have hP := v.pp.2
  have hS := v.ss.2
  have e3 := v.pp.1
  have e4 := v.ss.1
  refine wc_in mt_X6_cases rfl (L := [.ref y, am_un, am_un, am_un, am_un, am_un, am_un, am_un]) rfl ?_
  refine r_aload_0 rfl ?_
  refine r_getf rfl (by assumption) (by rfl) ?_
  rw [e8]
  refine r_istore_1 rfl ?_
  refine r_aload_0 rfl ?_
  refine r_push rfl ?_
  refine r_puti rfl (by assumption) rfl ?_
  rw [mo_8]
  have mm : MM (mh h y (upd g 8 0)) y (upd g 8 0) m := ⟨am_set_at, am_set_k q.2 (by omega)⟩
  have ot : (mh h y (upd g 8 0)).1 (y + 5) = some (.inl (0, 400, .inl T)) := am_set_k qt (by omega)
  show Wp G 5 mt_X6_cases 10 _ _ (mh h y (upd g 8 0)) _
  generalize mh h y (upd g 8 0) = h1 at *
  have o := mm.1
  have om := mm.2
  have bad : ∀ (k3 : Int32) (a4 a5 a6 a7 : Value), goodB m T n = false → Wp G 5 mt_X6_cases 30 [.ref y, .int (nI n), .int 0, .int k3, a4, a5, a6, a7] [] h1 (fun R => R = .inl (some (.int (if goodB m T n = true then csI m T n else -1)), h1)) := by
    intro k3 a4 a5 a6 a7 gb
    rw [gb]
    refine r_iload_3 rfl ?_
    refine r_iload_1 rfl ?_
    refine r_icge rfl (fun c => ?_) (fun c => ?_)
    · refine r_iload_2 rfl ?_
      refine r_ifneF rfl (rfl) ?_
      refine r_push rfl ?_
      refine r_iret rfl ?_
      rfl
    · refine r_iload_2 rfl ?_
      refine r_ifeqT rfl (rfl) ?_
      refine r_iload_2 rfl ?_
      refine r_ifneF rfl (rfl) ?_
      refine r_push rfl ?_
      refine r_iret rfl ?_
      rfl
  by_cases c1 : n % 3 = 0 ∧ n ≤ 36
  · obtain ⟨c1, c2⟩ := c1
    have hT : ∀ k, k < 400 → T k = nI (tN T k) := fun k hk => (tb k hk).1
    refine r_iload_1 rfl ?_
    refine r_push rfl ?_
    refine r_irem rfl (by decide) ?_
    refine r_ifneF rfl ((rm3 n hn).mpr c1) ?_
    refine r_iload_1 rfl ?_
    refine r_push rfl ?_
    refine r_icgtF rfl (nI_le c2 (by decide)) ?_
    refine r_push rfl ?_
    refine r_goto rfl ?_
    refine r_istore_2 rfl ?_
    refine r_push rfl ?_
    refine r_istore_3 rfl ?_
    refine wp_forHK (n / 3) (fun j => [.ref y, .int (nI n), .int 1, .int (nI (3 * j)), am_un, am_un, am_un, am_un]) (fun j h' => h' = h1 ∧ gdB m T j = true) (fun j h' hj hK kont => ?_) (fun h' hK => ?_) ⟨rfl, rfl⟩
    · obtain ⟨rfl, gj⟩ := hK
      have e1 : nI (3 * j) + 1 = nI (3 * j + 1) := nI_add _ 1
      have e2 : nI (3 * j) + 2 = nI (3 * j + 2) := nI_add _ 2
      have gz : okB m T j = false → goodB m T n = false := fun z => by
        unfold goodB
        rw [gdB_to (j := j + 1) (by rw [gdB, gj, z]; rfl) (by omega), Bool.and_false]
      have T0 := hT (3 * j) (by omega); have T1 := hT (3 * j + 1) (by omega); have T2 := hT (3 * j + 2) (by omega)
      have b0 := (tb (3 * j) (by omega)).2; have b1 := (tb (3 * j + 1) (by omega)).2; have b2 := (tb (3 * j + 2) (by omega)).2
      by_cases d1 : tN T (3 * j) < nP m
      · by_cases d2 : tN T (3 * j + 1) < nP m
        · by_cases d3 : tN T (3 * j) = tN T (3 * j + 1)
          · refine r_iload_3 rfl ?_
            refine r_iload_1 rfl ?_
            refine r_icgeF rfl (nI_lt (by omega) (by omega)) ?_
            refine r_iload_2 rfl ?_
            refine r_ifeqF rfl (by decide) ?_
            refine r_aload_0 rfl ?_
            refine r_getf rfl (by assumption) (by rfl) ?_
            refine r_iload_3 rfl ?_
            refine r_iald rfl (ot) (by rfl) (show 3 * j < 400 by omega) (by first | decide | omega) ?_
            refine r_aload_0 rfl ?_
            refine r_getf rfl (by assumption) (by rfl) ?_
            refine r_push rfl ?_
            refine r_iald rfl (om) (show (3 : Int32) = nI 3 from rfl) (by first | assumption | omega) (by first | decide | omega) ?_
            refine r_icgeF rfl (by rw [T0, e3]; exact nI_lt d1 (by omega)) ?_
            refine r_aload_0 rfl ?_
            refine r_getf rfl (by assumption) (by rfl) ?_
            refine r_iload_3 rfl ?_
            refine r_push rfl ?_
            refine r_iadd rfl ?_
            refine r_iald rfl (ot) (e1) (show 3 * j + 1 < 400 by omega) (by first | decide | omega) ?_
            refine r_aload_0 rfl ?_
            refine r_getf rfl (by assumption) (by rfl) ?_
            refine r_push rfl ?_
            refine r_iald rfl (om) (show (3 : Int32) = nI 3 from rfl) (by first | assumption | omega) (by first | decide | omega) ?_
            refine r_icgeF rfl (by rw [T1, e3]; exact nI_lt d2 (by omega)) ?_
            refine r_aload_0 rfl ?_
            refine r_getf rfl (by assumption) (by rfl) ?_
            refine r_iload_3 rfl ?_
            refine r_iald rfl (ot) (by rfl) (show 3 * j < 400 by omega) (by first | decide | omega) ?_
            refine r_aload_0 rfl ?_
            refine r_getf rfl (by assumption) (by rfl) ?_
            refine r_iload_3 rfl ?_
            refine r_push rfl ?_
            refine r_iadd rfl ?_
            refine r_iald rfl (ot) (e1) (show 3 * j + 1 < 400 by omega) (by first | decide | omega) ?_
            refine r_iceqT rfl (by rw [T0, T1, d3]) ?_
            refine r_push rfl ?_
            refine r_istore_2 rfl ?_
            refine r_iinc_3 rfl ?_
            refine r_goto rfl ?_
            exact bad _ _ _ _ _ (gz (Bool.eq_false_iff.mpr (fun w => (okB_i.mp w).2.2.1 d3)))
          · by_cases d4 : tN T (3 * j + 2) < 3
            · refine r_iload_3 rfl ?_
              refine r_iload_1 rfl ?_
              refine r_icgeF rfl (nI_lt (by omega) (by omega)) ?_
              refine r_iload_2 rfl ?_
              refine r_ifeqF rfl (by decide) ?_
              refine r_aload_0 rfl ?_
              refine r_getf rfl (by assumption) (by rfl) ?_
              refine r_iload_3 rfl ?_
              refine r_iald rfl (ot) (by rfl) (show 3 * j < 400 by omega) (by first | decide | omega) ?_
              refine r_aload_0 rfl ?_
              refine r_getf rfl (by assumption) (by rfl) ?_
              refine r_push rfl ?_
              refine r_iald rfl (om) (show (3 : Int32) = nI 3 from rfl) (by first | assumption | omega) (by first | decide | omega) ?_
              refine r_icgeF rfl (by rw [T0, e3]; exact nI_lt d1 (by omega)) ?_
              refine r_aload_0 rfl ?_
              refine r_getf rfl (by assumption) (by rfl) ?_
              refine r_iload_3 rfl ?_
              refine r_push rfl ?_
              refine r_iadd rfl ?_
              refine r_iald rfl (ot) (e1) (show 3 * j + 1 < 400 by omega) (by first | decide | omega) ?_
              refine r_aload_0 rfl ?_
              refine r_getf rfl (by assumption) (by rfl) ?_
              refine r_push rfl ?_
              refine r_iald rfl (om) (show (3 : Int32) = nI 3 from rfl) (by first | assumption | omega) (by first | decide | omega) ?_
              refine r_icgeF rfl (by rw [T1, e3]; exact nI_lt d2 (by omega)) ?_
              refine r_aload_0 rfl ?_
              refine r_getf rfl (by assumption) (by rfl) ?_
              refine r_iload_3 rfl ?_
              refine r_iald rfl (ot) (by rfl) (show 3 * j < 400 by omega) (by first | decide | omega) ?_
              refine r_aload_0 rfl ?_
              refine r_getf rfl (by assumption) (by rfl) ?_
              refine r_iload_3 rfl ?_
              refine r_push rfl ?_
              refine r_iadd rfl ?_
              refine r_iald rfl (ot) (e1) (show 3 * j + 1 < 400 by omega) (by first | decide | omega) ?_
              refine r_iceqF rfl (by rw [T0, T1]; exact fun z => d3 (nI_inj (by omega) (by omega) z)) ?_
              refine r_aload_0 rfl ?_
              refine r_getf rfl (by assumption) (by rfl) ?_
              refine r_iload_3 rfl ?_
              refine r_push rfl ?_
              refine r_iadd rfl ?_
              refine r_iald rfl (ot) (e2) (show 3 * j + 2 < 400 by omega) (by first | decide | omega) ?_
              refine r_push rfl ?_
              refine r_icgeF rfl (by rw [T2]; exact nI_lt d4 (by decide)) ?_
              refine r_push rfl ?_
              refine r_goto rfl ?_
              refine r_istore_2 rfl ?_
              refine r_iinc_3 rfl ?_
              refine r_goto rfl ?_
              rw [show nI (3 * j) + 3 = nI (3 * (j + 1)) from nI_add _ 3]
              exact kont _ ⟨rfl, by rw [gdB, gj, okB_i.mpr ⟨d1, d2, d3, d4⟩]; rfl⟩
            · refine r_iload_3 rfl ?_
              refine r_iload_1 rfl ?_
              refine r_icgeF rfl (nI_lt (by omega) (by omega)) ?_
              refine r_iload_2 rfl ?_
              refine r_ifeqF rfl (by decide) ?_
              refine r_aload_0 rfl ?_
              refine r_getf rfl (by assumption) (by rfl) ?_
              refine r_iload_3 rfl ?_
              refine r_iald rfl (ot) (by rfl) (show 3 * j < 400 by omega) (by first | decide | omega) ?_
              refine r_aload_0 rfl ?_
              refine r_getf rfl (by assumption) (by rfl) ?_
              refine r_push rfl ?_
              refine r_iald rfl (om) (show (3 : Int32) = nI 3 from rfl) (by first | assumption | omega) (by first | decide | omega) ?_
              refine r_icgeF rfl (by rw [T0, e3]; exact nI_lt d1 (by omega)) ?_
              refine r_aload_0 rfl ?_
              refine r_getf rfl (by assumption) (by rfl) ?_
              refine r_iload_3 rfl ?_
              refine r_push rfl ?_
              refine r_iadd rfl ?_
              refine r_iald rfl (ot) (e1) (show 3 * j + 1 < 400 by omega) (by first | decide | omega) ?_
              refine r_aload_0 rfl ?_
              refine r_getf rfl (by assumption) (by rfl) ?_
              refine r_push rfl ?_
              refine r_iald rfl (om) (show (3 : Int32) = nI 3 from rfl) (by first | assumption | omega) (by first | decide | omega) ?_
              refine r_icgeF rfl (by rw [T1, e3]; exact nI_lt d2 (by omega)) ?_
              refine r_aload_0 rfl ?_
              refine r_getf rfl (by assumption) (by rfl) ?_
              refine r_iload_3 rfl ?_
              refine r_iald rfl (ot) (by rfl) (show 3 * j < 400 by omega) (by first | decide | omega) ?_
              refine r_aload_0 rfl ?_
              refine r_getf rfl (by assumption) (by rfl) ?_
              refine r_iload_3 rfl ?_
              refine r_push rfl ?_
              refine r_iadd rfl ?_
              refine r_iald rfl (ot) (e1) (show 3 * j + 1 < 400 by omega) (by first | decide | omega) ?_
              refine r_iceqF rfl (by rw [T0, T1]; exact fun z => d3 (nI_inj (by omega) (by omega) z)) ?_
              refine r_aload_0 rfl ?_
              refine r_getf rfl (by assumption) (by rfl) ?_
              refine r_iload_3 rfl ?_
              refine r_push rfl ?_
              refine r_iadd rfl ?_
              refine r_iald rfl (ot) (e2) (show 3 * j + 2 < 400 by omega) (by first | decide | omega) ?_
              refine r_push rfl ?_
              refine r_icgeT rfl (by rw [T2]; exact nI_le (a := 3) (by omega) (by omega)) ?_
              refine r_push rfl ?_
              refine r_istore_2 rfl ?_
              refine r_iinc_3 rfl ?_
              refine r_goto rfl ?_
              exact bad _ _ _ _ _ (gz (Bool.eq_false_iff.mpr (fun w => d4 (okB_i.mp w).2.2.2)))
        · refine r_iload_3 rfl ?_
          refine r_iload_1 rfl ?_
          refine r_icgeF rfl (nI_lt (by omega) (by omega)) ?_
          refine r_iload_2 rfl ?_
          refine r_ifeqF rfl (by decide) ?_
          refine r_aload_0 rfl ?_
          refine r_getf rfl (by assumption) (by rfl) ?_
          refine r_iload_3 rfl ?_
          refine r_iald rfl (ot) (by rfl) (show 3 * j < 400 by omega) (by first | decide | omega) ?_
          refine r_aload_0 rfl ?_
          refine r_getf rfl (by assumption) (by rfl) ?_
          refine r_push rfl ?_
          refine r_iald rfl (om) (show (3 : Int32) = nI 3 from rfl) (by first | assumption | omega) (by first | decide | omega) ?_
          refine r_icgeF rfl (by rw [T0, e3]; exact nI_lt d1 (by omega)) ?_
          refine r_aload_0 rfl ?_
          refine r_getf rfl (by assumption) (by rfl) ?_
          refine r_iload_3 rfl ?_
          refine r_push rfl ?_
          refine r_iadd rfl ?_
          refine r_iald rfl (ot) (e1) (show 3 * j + 1 < 400 by omega) (by first | decide | omega) ?_
          refine r_aload_0 rfl ?_
          refine r_getf rfl (by assumption) (by rfl) ?_
          refine r_push rfl ?_
          refine r_iald rfl (om) (show (3 : Int32) = nI 3 from rfl) (by first | assumption | omega) (by first | decide | omega) ?_
          refine r_icgeT rfl (by rw [T1, e3]; exact nI_le (by omega) (by omega)) ?_
          refine r_push rfl ?_
          refine r_istore_2 rfl ?_
          refine r_iinc_3 rfl ?_
          refine r_goto rfl ?_
          exact bad _ _ _ _ _ (gz (Bool.eq_false_iff.mpr (fun w => d2 (okB_i.mp w).2.1)))
      · refine r_iload_3 rfl ?_
        refine r_iload_1 rfl ?_
        refine r_icgeF rfl (nI_lt (by omega) (by omega)) ?_
        refine r_iload_2 rfl ?_
        refine r_ifeqF rfl (by decide) ?_
        refine r_aload_0 rfl ?_
        refine r_getf rfl (by assumption) (by rfl) ?_
        refine r_iload_3 rfl ?_
        refine r_iald rfl (ot) (by rfl) (show 3 * j < 400 by omega) (by first | decide | omega) ?_
        refine r_aload_0 rfl ?_
        refine r_getf rfl (by assumption) (by rfl) ?_
        refine r_push rfl ?_
        refine r_iald rfl (om) (show (3 : Int32) = nI 3 from rfl) (by first | assumption | omega) (by first | decide | omega) ?_
        refine r_icgeT rfl (by rw [T0, e3]; exact nI_le (by omega) (by omega)) ?_
        refine r_push rfl ?_
        refine r_istore_2 rfl ?_
        refine r_iinc_3 rfl ?_
        refine r_goto rfl ?_
        exact bad _ _ _ _ _ (gz (Bool.eq_false_iff.mpr (fun w => d1 (okB_i.mp w).1)))
    · obtain ⟨rfl, gj⟩ := hK
      have gd : goodB m T n = true := goodB_i.mpr ⟨c1, c2, gj⟩
      rw [if_pos gd]
      have inner : ∀ (ho : Option Nat) (zv nv set : Int32) (a7 : Value), (∀ s, ho = some s → s < nS m) → ((ho = none ∧ nv = 1) ∨ (∃ s, ho = some s ∧ nv = 0 ∧ zv = nI s)) → (∀ a7', Wp G 5 mt_X6_cases 244 [.ref y, .int (nI n), .int 1, .int set, .int zv, .int nv, .int (bI (caseB m T n ho)), a7'] [] h' (fun R => R = .inl (some (.int (csI m T n)), h'))) → Wp G 5 mt_X6_cases 174 [.ref y, .int (nI n), .int 1, .int set, .int zv, .int nv, .int (bI (wnB m ho)), a7] [] h' (fun R => R = .inl (some (.int (csI m T n)), h')) := by
        intro ho zv nv set a7 hs hz kont
        refine r_push rfl ?_
        refine r_istore_7 rfl ?_
        have stop : ∀ k7, caseB m T n ho = false → Wp G 5 mt_X6_cases 177 [.ref y, .int (nI n), .int 1, .int set, .int zv, .int nv, .int 0, .int k7] [] h' (fun R => R = .inl (some (.int (csI m T n)), h')) := by
          intro k7 cf
          rw [cf] at kont
          refine r_iload_7 rfl ?_
          refine r_iload_1 rfl ?_
          refine r_icge rfl (fun c => ?_) (fun c => ?_)
          · exact kont _
          · refine r_iload_6 rfl ?_
            refine r_ifeqT rfl rfl ?_
            exact kont _
        cases wn : wnB m ho with
        | false => exact stop _ (by unfold caseB; rw [wn, Bool.false_and])
        | true =>
          have hk := (wnB_hok hs).mp wn
          refine wp_forHK (n / 3) (fun j => [.ref y, .int (nI n), .int 1, .int set, .int zv, .int nv, .int 1, .int (nI (3 * j))]) (fun j h2 => h2 = h' ∧ caB m T ho j = true) (fun j h2 hj hK kk => ?_) (fun h2 hK => ?_) ⟨rfl, rfl⟩
          · obtain ⟨rfl, cj⟩ := hK
            have e1 : nI (3 * j) + 1 = nI (3 * j + 1) := nI_add _ 1
            have e2 : nI (3 * j) + 2 = nI (3 * j + 2) := nI_add _ 2
            obtain ⟨d1, d2, d3, d4⟩ := okB_i.mp (gdB_at gj hj)
            have T0 := hT (3 * j) (by omega); have T1 := hT (3 * j + 1) (by omega); have T2 := hT (3 * j + 2) (by omega)
            have sk3 : skN m (tN T (3 * j)) (tN T (3 * j + 1)) ho < 3 := by unfold skN; (repeat' split) <;> decide
            have body : Wp G 5 mt_X6_cases 216 [.ref y, .int (nI n), .int 1, .int set, .int zv, .int nv, .int 1, .int (nI (3 * j))] [.int (hoI ho), .int (nI (tN T (3 * j + 1))), .int (nI (tN T (3 * j))), .ref y] h2 (fun R => R = .inl (some (.int (csI m T n)), h2)) := by
              by_cases c : skN m (tN T (3 * j)) (tN T (3 * j + 1)) ho = tN T (3 * j + 2)
              · refine r_invvP_3 rfl (o) rfl rfl (by decide) (c_ySinks mm v ⟨by omega, by omega, d3⟩ hk) ?_
                refine r_aload_0 rfl ?_
                refine r_getf rfl (by assumption) (by rfl) ?_
                refine r_iload_7 rfl ?_
                refine r_push rfl ?_
                refine r_iadd rfl ?_
                refine r_iald rfl (ot) (e2) (show 3 * j + 2 < 400 by omega) (by first | decide | omega) ?_
                refine r_icneF rfl (by rw [T2, c]) ?_
                refine r_push rfl ?_
                refine r_goto rfl ?_
                refine r_istore_6 rfl ?_
                refine r_iinc_7 rfl ?_
                refine r_goto rfl ?_
                rw [show nI (3 * j) + 3 = nI (3 * (j + 1)) from nI_add _ 3]
                exact kk _ ⟨rfl, by rw [caB, cj, decide_eq_true c]; rfl⟩
              · refine r_invvP_3 rfl (o) rfl rfl (by decide) (c_ySinks mm v ⟨by omega, by omega, d3⟩ hk) ?_
                refine r_aload_0 rfl ?_
                refine r_getf rfl (by assumption) (by rfl) ?_
                refine r_iload_7 rfl ?_
                refine r_push rfl ?_
                refine r_iadd rfl ?_
                refine r_iald rfl (ot) (e2) (show 3 * j + 2 < 400 by omega) (by first | decide | omega) ?_
                refine r_icneT rfl (by rw [T2]; exact fun z => c (nI_inj (by omega) (by omega) z)) ?_
                refine r_push rfl ?_
                refine r_istore_6 rfl ?_
                refine r_iinc_7 rfl ?_
                refine r_goto rfl ?_
                exact stop _ (by unfold caseB; rw [caB_to (j := j + 1) (by rw [caB, cj, decide_eq_false c]; rfl) (by omega), Bool.and_false])
            rcases hz with ⟨rfl, rfl⟩ | ⟨s, rfl, rfl, rfl⟩
            · refine r_iload_7 rfl ?_
              refine r_iload_1 rfl ?_
              refine r_icgeF rfl (nI_lt (by omega) (by omega)) ?_
              refine r_iload_6 rfl ?_
              refine r_ifeqF rfl (by decide) ?_
              refine r_aload_0 rfl ?_
              refine r_aload_0 rfl ?_
              refine r_getf rfl (by assumption) (by rfl) ?_
              refine r_iload_7 rfl ?_
              refine r_iald rfl (ot) (by rfl) (show 3 * j < 400 by omega) (by first | decide | omega) ?_
              rw [T0]
              refine r_aload_0 rfl ?_
              refine r_getf rfl (by assumption) (by rfl) ?_
              refine r_iload_7 rfl ?_
              refine r_push rfl ?_
              refine r_iadd rfl ?_
              refine r_iald rfl (ot) (e1) (show 3 * j + 1 < 400 by omega) (by first | decide | omega) ?_
              rw [T1]
              refine r_iload_5 rfl ?_
              refine r_ifeqF rfl (by decide) ?_
              refine r_push rfl ?_
              refine r_goto rfl ?_
              exact body
            · refine r_iload_7 rfl ?_
              refine r_iload_1 rfl ?_
              refine r_icgeF rfl (nI_lt (by omega) (by omega)) ?_
              refine r_iload_6 rfl ?_
              refine r_ifeqF rfl (by decide) ?_
              refine r_aload_0 rfl ?_
              refine r_aload_0 rfl ?_
              refine r_getf rfl (by assumption) (by rfl) ?_
              refine r_iload_7 rfl ?_
              refine r_iald rfl (ot) (by rfl) (show 3 * j < 400 by omega) (by first | decide | omega) ?_
              rw [T0]
              refine r_aload_0 rfl ?_
              refine r_getf rfl (by assumption) (by rfl) ?_
              refine r_iload_7 rfl ?_
              refine r_push rfl ?_
              refine r_iadd rfl ?_
              refine r_iald rfl (ot) (e1) (show 3 * j + 1 < 400 by omega) (by first | decide | omega) ?_
              rw [T1]
              refine r_iload_5 rfl ?_
              refine r_ifeqT rfl (rfl) ?_
              refine r_iload_4 rfl ?_
              exact body
          · obtain ⟨rfl, cj⟩ := hK
            have ct : caseB m T n ho = true := by unfold caseB; rw [wn, cj]; rfl
            rw [ct] at kont
            refine r_iload_7 rfl ?_
            refine r_iload_1 rfl ?_
            refine r_icgeT rfl (by rw [show 3 * (n / 3) = n by omega]; exact Int32.le_refl _) ?_
            exact kont _
      refine r_iload_3 rfl ?_
      refine r_iload_1 rfl ?_
      refine r_icgeT rfl (by rw [show 3 * (n / 3) = n by omega]; exact Int32.le_refl _) ?_
      refine r_iload_2 rfl ?_
      refine r_ifneT rfl (by decide) ?_
      refine r_push rfl ?_
      refine r_istore_3 rfl ?_
      refine r_push rfl ?_
      refine r_istore_4 rfl ?_
      refine wp_forH (nS m) (fun j L hh => ∃ a5 a6 a7, L = [.ref y, .int (nI n), .int 1, .int (bsF (fun s => caseB m T n (some s)) j), .int (nI j), a5, a6, a7] ∧ hh = h') (fun j L hh hj hI kont => ?_) (fun L hh hI => ?_) _ _ ⟨_, _, _, rfl, rfl⟩
      · obtain ⟨a5, a6, a7, rfl, rfl⟩ := hI
        have nx : Wp G 5 mt_X6_cases 174 [.ref y, .int (nI n), .int 1, .int (bsF (fun s => caseB m T n (some s)) j), .int (nI j), .int 0, .int (bI (wnB m (some j))), a7] [] hh (fun R => R = .inl (some (.int (csI m T n)), hh)) := by
          refine inner (some j) _ _ _ _ (fun s es => by cases es; exact hj) (Or.inr ⟨j, rfl, rfl, rfl⟩) (fun a7' => ?_)
          cases cb : caseB m T n (some j) with
          | true =>
            refine r_iload_3 rfl ?_
            refine r_iload_6 rfl ?_
            refine r_ifeqF rfl (by decide) ?_
            refine r_push rfl ?_
            refine r_iload_5 rfl ?_
            refine r_ifeqT rfl (rfl) ?_
            refine r_iload_4 rfl ?_
            refine r_ishl rfl ?_
            refine r_goto rfl ?_
            refine r_ior rfl ?_
            refine r_istore_3 rfl ?_
            refine r_iinc_4 rfl ?_
            refine r_goto rfl ?_
            rw [nI_1]
            exact kont _ _ ⟨_, _, _, by rw [bsF_t cb], rfl⟩
          | false =>
            refine r_iload_3 rfl ?_
            refine r_iload_6 rfl ?_
            refine r_ifeqT rfl (rfl) ?_
            refine r_push rfl ?_
            refine r_ior rfl ?_
            refine r_istore_3 rfl ?_
            refine r_iinc_4 rfl ?_
            refine r_goto rfl ?_
            rw [nI_1]
            exact kont _ _ ⟨_, _, _, by rw [bsF_f cb], rfl⟩
        by_cases c : m (72 + 6 * j) = 0
        · have wn : wnB m (some j) = true := decide_eq_true c
          rw [wn] at nx
          refine r_iload_4 rfl ?_
          refine r_aload_0 rfl ?_
          refine r_getf rfl (by assumption) (by rfl) ?_
          refine r_push rfl ?_
          refine r_iald rfl (om) (show (4 : Int32) = nI 4 from rfl) (by first | assumption | omega) (by first | decide | omega) ?_
          refine r_icgtF rfl (by rw [e4]; exact nI_le (by omega) (by omega)) ?_
          refine r_iload_4 rfl ?_
          refine r_aload_0 rfl ?_
          refine r_getf rfl (by assumption) (by rfl) ?_
          refine r_push rfl ?_
          refine r_iald rfl (om) (show (4 : Int32) = nI 4 from rfl) (by first | assumption | omega) (by first | decide | omega) ?_
          refine r_icneT rfl (by rw [e4]; exact fun z => absurd (nI_inj (by omega) (by omega) z) (by omega)) ?_
          refine r_push rfl ?_
          refine r_istore_5 rfl ?_
          refine r_iload_5 rfl ?_
          refine r_ifneF rfl (rfl) ?_
          refine r_aload_0 rfl ?_
          refine r_iload_4 rfl ?_
          refine r_push rfl ?_
          refine r_invvP_2 rfl (o) rfl rfl (by decide) (c_os3 mm (show j < 100 by omega)) ?_
          refine r_ifneF rfl (c) ?_
          refine r_push rfl ?_
          refine r_goto rfl ?_
          refine r_istore_6 rfl ?_
          exact nx
        · have wn : wnB m (some j) = false := decide_eq_false c
          rw [wn] at nx
          refine r_iload_4 rfl ?_
          refine r_aload_0 rfl ?_
          refine r_getf rfl (by assumption) (by rfl) ?_
          refine r_push rfl ?_
          refine r_iald rfl (om) (show (4 : Int32) = nI 4 from rfl) (by first | assumption | omega) (by first | decide | omega) ?_
          refine r_icgtF rfl (by rw [e4]; exact nI_le (by omega) (by omega)) ?_
          refine r_iload_4 rfl ?_
          refine r_aload_0 rfl ?_
          refine r_getf rfl (by assumption) (by rfl) ?_
          refine r_push rfl ?_
          refine r_iald rfl (om) (show (4 : Int32) = nI 4 from rfl) (by first | assumption | omega) (by first | decide | omega) ?_
          refine r_icneT rfl (by rw [e4]; exact fun z => absurd (nI_inj (by omega) (by omega) z) (by omega)) ?_
          refine r_push rfl ?_
          refine r_istore_5 rfl ?_
          refine r_iload_5 rfl ?_
          refine r_ifneF rfl (rfl) ?_
          refine r_aload_0 rfl ?_
          refine r_iload_4 rfl ?_
          refine r_push rfl ?_
          refine r_invvP_2 rfl (o) rfl rfl (by decide) (c_os3 mm (show j < 100 by omega)) ?_
          refine r_ifneT rfl (c) ?_
          refine r_push rfl ?_
          refine r_istore_6 rfl ?_
          exact nx
      · obtain ⟨a5, a6, a7, rfl, rfl⟩ := hI
        have fin : ∀ (set : Int32) (a5 a6 a7 : Value), set = csI m T n → Wp G 5 mt_X6_cases 123 [.ref y, .int (nI n), .int 1, .int set, .int (nI (nS m + 1)), a5, a6, a7] [] hh (fun R => R = .inl (some (.int (csI m T n)), hh)) := by
          rintro set a5 a6 a7 rfl
          refine r_iload_4 rfl ?_
          refine r_aload_0 rfl ?_
          refine r_getf rfl (by assumption) (by rfl) ?_
          refine r_push rfl ?_
          refine r_iald rfl (om) (show (4 : Int32) = nI 4 from rfl) (by first | assumption | omega) (by first | decide | omega) ?_
          refine r_icgtT rfl (by rw [e4]; exact nI_lt (by omega) (by omega)) ?_
          refine r_iload_3 rfl ?_
          refine r_iret rfl ?_
          rfl
        refine r_iload_4 rfl ?_
        refine r_aload_0 rfl ?_
        refine r_getf rfl (by assumption) (by rfl) ?_
        refine r_push rfl ?_
        refine r_iald rfl (om) (show (4 : Int32) = nI 4 from rfl) (by first | assumption | omega) (by first | decide | omega) ?_
        refine r_icgtF rfl (by rw [e4]; exact Int32.le_refl _) ?_
        refine r_iload_4 rfl ?_
        refine r_aload_0 rfl ?_
        refine r_getf rfl (by assumption) (by rfl) ?_
        refine r_push rfl ?_
        refine r_iald rfl (om) (show (4 : Int32) = nI 4 from rfl) (by first | assumption | omega) (by first | decide | omega) ?_
        refine r_icneF rfl (by rw [e4]) ?_
        refine r_push rfl ?_
        refine r_goto rfl ?_
        refine r_istore_5 rfl ?_
        refine r_iload_5 rfl ?_
        refine r_ifneT rfl (by decide) ?_
        refine r_push rfl ?_
        refine r_goto rfl ?_
        refine r_istore_6 rfl ?_
        refine inner none _ _ _ _ (fun s es => by cases es) (Or.inl ⟨rfl, rfl⟩) (fun a7' => ?_)
        cases cb : caseB m T n none with
        | true =>
          refine r_iload_3 rfl ?_
          refine r_iload_6 rfl ?_
          refine r_ifeqF rfl (by decide) ?_
          refine r_push rfl ?_
          refine r_iload_5 rfl ?_
          refine r_ifeqF rfl (by decide) ?_
          refine r_push rfl ?_
          refine r_goto rfl ?_
          refine r_ishl rfl ?_
          refine r_goto rfl ?_
          refine r_ior rfl ?_
          refine r_istore_3 rfl ?_
          refine r_iinc_4 rfl ?_
          refine r_goto rfl ?_
          rw [nI_1]
          exact fin _ _ _ _ (by rw [csI_eq hS, if_pos cb])
        | false =>
          refine r_iload_3 rfl ?_
          refine r_iload_6 rfl ?_
          refine r_ifeqT rfl (rfl) ?_
          refine r_push rfl ?_
          refine r_ior rfl ?_
          refine r_istore_3 rfl ?_
          refine r_iinc_4 rfl ?_
          refine r_goto rfl ?_
          rw [nI_1]
          exact fin _ _ _ _ (by rw [csI_eq hS, if_neg (by rw [cb]; decide)])
  · have gb : goodB m T n = false := Bool.eq_false_iff.mpr (fun z => c1 ⟨(goodB_i.mp z).1, (goodB_i.mp z).2.1⟩)
    by_cases c2 : n % 3 = 0
    · refine r_iload_1 rfl ?_
      refine r_push rfl ?_
      refine r_irem rfl (by decide) ?_
      refine r_ifneF rfl ((rm3 n hn).mpr c2) ?_
      refine r_iload_1 rfl ?_
      refine r_push rfl ?_
      refine r_icgtT rfl (nI_lt (a := 36) (by omega) (by omega)) ?_
      refine r_push rfl ?_
      refine r_istore_2 rfl ?_
      refine r_push rfl ?_
      refine r_istore_3 rfl ?_
      exact bad _ _ _ _ _ gb
    · refine r_iload_1 rfl ?_
      refine r_push rfl ?_
      refine r_irem rfl (by decide) ?_
      refine r_ifneT rfl (fun z => c2 ((rm3 n hn).mp z)) ?_
      refine r_push rfl ?_
      refine r_istore_2 rfl ?_
      refine r_push rfl ?_
      refine r_istore_3 rfl ?_
      exact bad _ _ _ _ _ gb
end
