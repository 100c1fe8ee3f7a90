/-! THE BEGIN: both hold the same, a valley without people -/
set_option maxRecDepth 100000
abbrev OP2W (G : am_G) (bs x : Nat) (h : am_H) (a : AA) (dx kX : Nat) (AsX : List Value) (dy kY : Nat) (AsY : List Value) : Prop := Ev G dx kX AsX h (fun v h1 => ∃ code, v = .int code ∧ CY bs x h h1 ∧ (∃ lf, h1.1 (x + 97) = some (lcell lf)) ∧ Ev G dy kY AsY h1 (fun u h2 => ∃ w, u = .int w ∧ FIN G bs x h a h2 ∧ (∃ lf, h2.1 (x + 97) = some (lcell lf) ∧ (code = 0 → lf 0 = w.toInt64 ∧ (w = 0 ∨ w = 1))) ∧ ∃ g, h2.1 (x + 87) = some (mcell (x + 87) g) ∧ g 0 = code))
section
variable {G : am_G} {bs x dx dy kX kY : Nat} {h : am_H} {a a' : AA} {AsX AsY : List Value}
theorem op2W {cls : Nat → Nat} {cd : Nat → Int32} {r : Nat × Int32} (st : STA G bs x h a) (hX : Ev G dx kX AsX h (HO (x + 97) (QV h r) (QX h r cls) cd)) (hcd : r.1 ≠ 0 → cd (cls r.1) = nI r.1) (hr : r.1 < 1000) (h01 : r.2 = 0 ∨ r.2 = 1) (hY : ∀ h2 g, MM h2 (x + 87) g a.m → VR a.m → g 6 = nI a.ws.length → Yc G dy kY AsY h2 (x + 87) g r) : OP2W G bs x h a dx kX AsX dy kY AsY := by
  refine ev_mono (op2qR st hX hcd hr hY) ?_
  rintro v h1 ⟨code, e, cy, o, E⟩
  refine ⟨code, e, cy, o, ev_mono E ?_⟩
  rintro u h2 ⟨w, e2, f, ⟨lf, o2, z⟩, gg⟩
  exact ⟨w, e2, f, ⟨lf, o2, fun q => ⟨(z q).1, by rw [(z q).2]; exact h01⟩⟩, gg⟩
theorem o_crossW (st : STA G bs x h a) (p : Int32) : OP2W G bs x h a 5 m_X0_cross [.ref x, .int p, .ref (x + 97)] 4 m_X6_cross [.ref (x + 87), .int p] := by
  have st0 := st
  obtain ⟨S, g, lf, ⟨gx, sg, hn, hl, lv, lc, lb, hz⟩, ⟨b, l, ⟨q1, v, yb, q4, q5, q6, o, q8⟩, W, X⟩, sy, o97⟩ := st
  have hq : (qCross a.m p).1 = 0 ∨ (qCross a.m p).1 = 1 := by unfold qCross; (repeat' split) <;> simp
  have h01 : (qCross a.m p).2 = 0 ∨ (qCross a.m p).2 = 1 := by unfold qCross; (repeat' split) <;> first | exact Or.inl rfl | exact bI_01 _
  refine op2W (cls := (k1 20)) (r := qCross a.m p) st0 (h_cross (c_xCross o q1 v yb p) (by decide) o (by rintro v1 h1 ⟨-, rfl, rfl⟩; exact ⟨_, _, rfl, o97, h01⟩) (by rintro c h1 ⟨h1, rfl, -⟩; rcases hq with e | e; exact absurd e h1; rw [e]; decide)) ?_ ?_ h01 (fun h2 g mm v _ => c_yCross mm v p)
  · rcases hq with e | e <;> rw [e] <;> first | exact fun h => absurd rfl h | exact fun _ => rfl
  · omega
theorem o_owesW (st : STA G bs x h a) (p w : Int32) : OP2W G bs x h a 5 m_X0_owes [.ref x, .int p, .int w, .ref (x + 97)] 4 m_X6_owes [.ref (x + 87), .int p, .int w] := by
  have st0 := st
  obtain ⟨S, g, lf, ⟨gx, sg, hn, hl, lv, lc, lb, hz⟩, ⟨b, l, ⟨q1, v, yb, q4, q5, q6, o, q8⟩, W, X⟩, sy, o97⟩ := st
  have hq : (qOwes a.m p w).1 = 0 ∨ (qOwes a.m p w).1 = 1 ∨ (qOwes a.m p w).1 = 2 := by unfold qOwes; (repeat' split) <;> simp
  have h01 : (qOwes a.m p w).2 = 0 ∨ (qOwes a.m p w).2 = 1 := by unfold qOwes; (repeat' split) <;> first | exact Or.inl rfl | exact bI_01 _
  refine op2W (cls := (k2 20 18)) (r := qOwes a.m p w) st0 (h_owes (c_xOwes o q1 v p w) (by decide) o (by rintro v1 h1 ⟨-, rfl, rfl⟩; exact ⟨_, _, rfl, o97, h01⟩) (by rintro c h1 ⟨h1, rfl, -⟩; rcases hq with e | e | e; exact absurd e h1; rw [e]; decide; rw [e]; decide)) ?_ ?_ h01 (fun h2 g mm v _ => c_yOwes mm v p w)
  · rcases hq with e | e | e <;> rw [e] <;> first | exact fun h => absurd rfl h | exact fun _ => rfl
  · omega
theorem vr_0 : VR m0F := by
  have e3 : nP m0F = 0 := rfl
  have e4 : nS m0F = 0 := rfl
  refine ⟨⟨⟨rfl, by decide⟩, ⟨rfl, by decide⟩, ⟨rfl, by decide⟩⟩, ⟨⟨0, by decide, rfl⟩, Or.inl rfl⟩, fun q hq => ⟨⟨0, by decide, m0F_z (by omega)⟩, ⟨0, by decide, m0F_z (by omega)⟩⟩, fun p hp => ?_, fun s hs => ?_⟩
  · rw [e3] at hp; omega
  · rw [e4] at hs; omega
theorem rk_0 : RK m0F := by
  have e3 : nP m0F = 0 := rfl
  refine ⟨Or.inl rfl, fun z => absurd rfl z, ⟨by decide, fun p hp => ?_⟩, fun k hk => m0F_z (by omega)⟩
  rw [e3] at hp; omega
theorem tf_0 : TF (fun _ => 0) (fun _ => 0) := fun k _ => ⟨⟨0, by decide, rfl⟩, (by decide : (0 : Int32) = sbI 0)⟩
/-- the law's objects, when they have been made -/
theorem c_begin (hw : HW h) (og : OG G bs h) (hbs : bs ≤ x) (hx : h.2.1 = x) {Q : am_O → Prop} {s : Nat} {u1 u2 u3 u4 u5 u6 : Value} (kont : ∀ h', STA G bs x h' (m0F, m0F, false, [], (fun _ => 0), 0, -1) → HF (fun _ => False) 98 30000 h h' → Wp G 60 mt_L_law 23 [.ref s, .ref x, .ref (x + 87), .ref (x + 97), .int (nI 0), u5, u6] [] h' Q) : Wp G 60 mt_L_law 0 [.ref s, u1, u2, u3, u4, u5, u6] [] h Q := by
  refine r_new rfl rfl ?_
  refine r_dupR rfl ?_
  rw [hx]
  refine r_inviF rfl rfl rfl (by decide) (c_x1Init hw og hbs hx) ?_
  rintro h1 ⟨n1, o1, wa1, wa2, wa3, rs, sc, wa4, ⟨arr, arr1, al⟩, sh, ⟨f7, ac⟩, wa5, F1⟩
  refine r_astore_1 rfl ?_
  refine r_new rfl rfl ?_
  refine r_dupR rfl ?_
  refine r_inviF rfl rfl rfl (by decide) (c_x6Init (P := fun _ => False) (ni_new F1.w (cs := fun _ => .inl (0, 0, .inl fun _ => 0)))) ?_
  rw [n1]
  rintro h2 ⟨mm, y2, y3, y4, y5, y6, y7, y8, y9, F2, n2⟩
  refine r_astore_2 rfl ?_
  refine r_push rfl ?_
  refine r_newl rfl (n := 1) rfl (by decide) ?_
  have F3 : HF (fun _ => False) 1 1 h2 (am_new h2 (.inl (3, 1, .inr (.inl fun _ => 0))) 1) := HF.new F2.w
  have o97 : (am_new h2 (.inl (3, 1, .inr (.inl fun _ => 0))) 1).1 (x + 97) = some (lcell fun _ => 0) := by rw [show x + 97 = h2.2.1 by omega]; exact am_new_at
  have n3 : (am_new h2 (.inl (3, 1, .inr (.inl fun _ => 0))) 1).2.1 = x + 98 := by show h2.2.1 + 1 = _; omega
  rw [show h2.2.1 = x + 97 by omega]
  generalize am_new h2 (.inl (3, 1, .inr (.inl fun _ => 0))) 1 = h3 at *
  refine r_astore_3 rfl ?_
  refine r_push rfl ?_
  refine r_istore_4 rfl ?_
  have F23 := (HF.trans F2 F3).mono (P' := fun _ => False) (fun _ z => z) (Nat.le_refl _) (Nat.le_refl _)
  have F := (HF.trans F1 F23).mono (P' := fun _ => False) (fun _ z => z) (Nat.le_refl _) (Nat.le_refl _)
  have k2 : ∀ {i : Nat} {e : am_C}, h1.1 i = some e → h3.1 i = some e := fun z => F23.k z (fun z => z)
  have k3 : ∀ {i : Nat} {e : am_C}, h2.1 i = some e → h3.1 i = some e := fun z => F3.k z (fun z => z)
  have w3 : ∀ {w : Nat}, WA h1 w m0F (fun _ => 0) .null → WA h3 w m0F (fun _ => 0) .null := fun z => z.keep F23 (fun _ z => z.elim)
  refine kont h3 ⟨fun _ => False, g0F, _, ⟨hbs, fun _ z => z.elim, by omega, by decide, rk_0⟩, ⟨fun _ => 0, .null, ⟨w3 wa1, vr_0, fun s hs => absurd hs (by rw [show nS m0F = 0 from rfl]; omega), Or.inl ⟨rfl, rfl⟩, F.w, og.keep F (fun _ z => z.elim), k2 o1, ⟨_, k2 sc⟩⟩, ⟨arr, al.keep F23 (fun z => z) (fun z => z), by decide, Or.inr arr1, fun p hp => absurd (show p ∈ ([] : List (Nat × (Nat → Int32))) from hp) List.not_mem_nil, List.Pairwise.nil⟩, ⟨fun e => (by cases e), ⟨_, _, _, w3 wa2⟩, ⟨_, _, _, w3 wa3⟩, ⟨_, _, _, w3 wa4⟩, ⟨_, _, _, w3 wa5⟩, ⟨_, _, _, _, _, rs.keep F23 (fun z => z) (fun z => z), tf_0⟩, ⟨f7, k2 ac⟩, sh.keep F23 (fun _ z => z.elim)⟩⟩, ⟨⟨k3 mm.1, k3 mm.2⟩, ⟨_, k3 y2, fun e => (by cases e), fun _ _ => rfl⟩, ⟨_, k3 y3⟩, ⟨_, k3 y4, AR.nil⟩, k3 y5, ⟨_, k3 y6⟩, ⟨_, k3 y7⟩, ⟨_, k3 y8⟩, ⟨_, k3 y9⟩, ⟨rfl, rfl, rfl, rfl, ?_, ?_⟩⟩, o97⟩ (F.mono (fun _ z => z) (by omega) (by omega))
  · exact Or.inl rfl
  · exact Or.inl rfl
end
