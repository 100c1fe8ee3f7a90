/-! THE LAW'S HELPERS: what is answered goes to a cell, what is thrown to a number -/
set_option maxRecDepth 100000
abbrev lcell (f : Nat → Int64) : am_C := .inl (3, 1, .inr (.inl f))
/-- a call whose answer lies at z; what it threw, by a number -/
def HO (z : Nat) (Φ : Value → am_H → Prop) (Ψ : Nat → am_H → Prop) (cd : Nat → Int32) : Value → am_H → Prop := fun r h' => (∃ n h1 lf, Φ (.int n) h1 ∧ h1.1 z = some (lcell lf) ∧ r = .int 0 ∧ h' = am_set h1 z (lcell (vp_updL lf 0 n.toInt64))) ∨ (∃ c, Ψ c h' ∧ r = .int (cd c))
section
variable {G : am_G} {d e x z : Nat} {h : am_H} {fs : List Value} {Φ : Value → am_H → Prop} {Ψ : Nat → am_H → Prop}
theorem h_ahead {a0 a1 a2 : Int32} (hc : Et G e m_X1_ahead [.ref x, .int a0, .int a1, .int a2] h Φ Ψ) (hd : e < d) (ho : h.1 x = some (.inr (0, fs))) (hz : ∀ v h', Φ v h' → ∃ n lf, v = .int n ∧ h'.1 z = some (lcell lf)) (hx : ∀ c h', Ψ c h' → c = 20 ∨ c = 18 ∨ c = 21) : Ev G d m_X0_ahead [.ref x, .int a0, .int a1, .int a2, .ref z] h (HO z Φ Ψ (fun c => if c = 20 then 1 else if c = 18 then 2 else 3)) := by
  refine wc_in mt_X0_ahead rfl (L := [.ref x, .int a0, .int a1, .int a2, .ref z, am_un]) rfl ?_
  refine r_aload_4 rfl ?_
  refine r_push rfl ?_
  refine r_aload_0 rfl ?_
  refine r_iload_1 rfl ?_
  refine r_iload_2 rfl ?_
  refine r_iload_3 rfl ?_
  refine r_k rfl (am_invv_ok rfl ho rfl rfl) hd hc (fun R q => ?_)
  rcases q with ⟨v, h1, rfl, q⟩ | ⟨c, h1, rfl, q⟩
  · obtain ⟨n, lf, rfl, o⟩ := hz _ _ q
    show Wp G d mt_X0_ahead 10 _ _ h1 _
    refine r_i2l rfl ?_
    refine r_last rfl o (show (0 : Int32) = nI 0 from rfl) (by decide) (by decide) ?_
    refine r_goto rfl ?_
    refine r_push rfl ?_
    refine r_iret rfl ?_
    exact ⟨_, _, rfl, Or.inl ⟨n, h1, lf, q, o, rfl, rfl⟩⟩
  · rcases hx _ _ q with rfl | rfl | rfl
    · show Wp G d mt_X0_ahead 17 [.ref x, .int a0, .int a1, .int a2, .ref z, am_un] [] h1 _
      refine r_push rfl ?_
      refine r_iret rfl ?_
      exact ⟨_, _, rfl, Or.inr ⟨_, q, rfl⟩⟩
    · show Wp G d mt_X0_ahead 21 [.ref x, .int a0, .int a1, .int a2, .ref z, am_un] [] h1 _
      refine r_push rfl ?_
      refine r_iret rfl ?_
      exact ⟨_, _, rfl, Or.inr ⟨_, q, rfl⟩⟩
    · show Wp G d mt_X0_ahead 25 [.ref x, .int a0, .int a1, .int a2, .ref z, am_un] [] h1 _
      refine r_push rfl ?_
      refine r_iret rfl ?_
      exact ⟨_, _, rfl, Or.inr ⟨_, q, rfl⟩⟩
theorem h_cross {a0 : Int32} (hc : Et G e m_X1_cross [.ref x, .int a0] h Φ Ψ) (hd : e < d) (ho : h.1 x = some (.inr (0, fs))) (hz : ∀ v h', Φ v h' → ∃ n lf, v = .int n ∧ h'.1 z = some (lcell lf) ∧ (n = 0 ∨ n = 1)) (hx : ∀ c h', Ψ c h' → c = 20) : Ev G d m_X0_cross [.ref x, .int a0, .ref z] h (HO z Φ Ψ (fun _ => 1)) := by
  refine wc_in mt_X0_cross rfl (L := [.ref x, .int a0, .ref z, am_un]) rfl ?_
  refine r_aload_2 rfl ?_
  refine r_push rfl ?_
  refine r_aload_0 rfl ?_
  refine r_iload_1 rfl ?_
  refine r_k rfl (am_invv_ok rfl ho rfl rfl) hd hc (fun R q => ?_)
  rcases q with ⟨v, h1, rfl, q⟩ | ⟨c, h1, rfl, q⟩
  · obtain ⟨n, lf, rfl, o, hn⟩ := hz _ _ q
    show Wp G d mt_X0_cross 7 _ _ h1 _
    rcases hn with rfl | rfl
    · refine r_ifeqT rfl (by decide) ?_
      refine r_push rfl ?_
      refine r_last rfl o (show (0 : Int32) = nI 0 from rfl) (by decide) (by decide) ?_
      refine r_goto rfl ?_
      refine r_push rfl ?_
      refine r_iret rfl ?_
      exact ⟨_, _, rfl, Or.inl ⟨_, h1, lf, q, o, rfl, rfl⟩⟩
    · refine r_ifeqF rfl (by decide) ?_
      refine r_push rfl ?_
      refine r_goto rfl ?_
      refine r_last rfl o (show (0 : Int32) = nI 0 from rfl) (by decide) (by decide) ?_
      refine r_goto rfl ?_
      refine r_push rfl ?_
      refine r_iret rfl ?_
      exact ⟨_, _, rfl, Or.inl ⟨_, h1, lf, q, o, rfl, rfl⟩⟩
  · obtain rfl := hx _ _ q
    show Wp G d mt_X0_cross 20 [.ref x, .int a0, .ref z, am_un] [] h1 _
    refine r_push rfl ?_
    refine r_iret rfl ?_
    exact ⟨_, _, rfl, Or.inr ⟨_, q, rfl⟩⟩
theorem h_does {a0 a1 : Int32} (hc : Et G e m_X1_does [.ref x, .int a0, .int a1] h Φ Ψ) (hd : e < d) (ho : h.1 x = some (.inr (0, fs))) (hz : ∀ v h', Φ v h' → ∃ n lf, v = .int n ∧ h'.1 z = some (lcell lf)) (hx : ∀ c h', Ψ c h' → c = 20 ∨ c = 21) : Ev G d m_X0_does [.ref x, .int a0, .int a1, .ref z] h (HO z Φ Ψ (fun c => if c = 20 then 1 else 2)) := by
  refine wc_in mt_X0_does rfl (L := [.ref x, .int a0, .int a1, .ref z, am_un]) rfl ?_
  refine r_aload_3 rfl ?_
  refine r_push rfl ?_
  refine r_aload_0 rfl ?_
  refine r_iload_1 rfl ?_
  refine r_iload_2 rfl ?_
  refine r_k rfl (am_invv_ok rfl ho rfl rfl) hd hc (fun R q => ?_)
  rcases q with ⟨v, h1, rfl, q⟩ | ⟨c, h1, rfl, q⟩
  · obtain ⟨n, lf, rfl, o⟩ := hz _ _ q
    show Wp G d mt_X0_does 8 _ _ h1 _
    refine r_i2l rfl ?_
    refine r_last rfl o (show (0 : Int32) = nI 0 from rfl) (by decide) (by decide) ?_
    refine r_goto rfl ?_
    refine r_push rfl ?_
    refine r_iret rfl ?_
    exact ⟨_, _, rfl, Or.inl ⟨n, h1, lf, q, o, rfl, rfl⟩⟩
  · rcases hx _ _ q with rfl | rfl
    · show Wp G d mt_X0_does 15 [.ref x, .int a0, .int a1, .ref z, am_un] [] h1 _
      refine r_push rfl ?_
      refine r_iret rfl ?_
      exact ⟨_, _, rfl, Or.inr ⟨_, q, rfl⟩⟩
    · show Wp G d mt_X0_does 19 [.ref x, .int a0, .int a1, .ref z, am_un] [] h1 _
      refine r_push rfl ?_
      refine r_iret rfl ?_
      exact ⟨_, _, rfl, Or.inr ⟨_, q, rfl⟩⟩
theorem h_first {a0 : Int32} (hc : Et G e m_X1_first [.ref x, .int a0] h Φ Ψ) (hd : e < d) (ho : h.1 x = some (.inr (0, fs))) (hz : ∀ v h', Φ v h' → ∃ n lf, v = .int n ∧ h'.1 z = some (lcell lf)) (hx : ∀ c h', Ψ c h' → c = 20) : Ev G d m_X0_first [.ref x, .int a0, .ref z] h (HO z Φ Ψ (fun _ => 1)) := by
  refine wc_in mt_X0_first rfl (L := [.ref x, .int a0, .ref z, am_un]) rfl ?_
  refine r_aload_2 rfl ?_
  refine r_push rfl ?_
  refine r_aload_0 rfl ?_
  refine r_iload_1 rfl ?_
  refine r_k rfl (am_invv_ok rfl ho rfl rfl) hd hc (fun R q => ?_)
  rcases q with ⟨v, h1, rfl, q⟩ | ⟨c, h1, rfl, q⟩
  · obtain ⟨n, lf, rfl, o⟩ := hz _ _ q
    show Wp G d mt_X0_first 7 _ _ h1 _
    refine r_i2l rfl ?_
    refine r_last rfl o (show (0 : Int32) = nI 0 from rfl) (by decide) (by decide) ?_
    refine r_goto rfl ?_
    refine r_push rfl ?_
    refine r_iret rfl ?_
    exact ⟨_, _, rfl, Or.inl ⟨n, h1, lf, q, o, rfl, rfl⟩⟩
  · obtain rfl := hx _ _ q
    show Wp G d mt_X0_first 13 [.ref x, .int a0, .ref z, am_un] [] h1 _
    refine r_push rfl ?_
    refine r_iret rfl ?_
    exact ⟨_, _, rfl, Or.inr ⟨_, q, rfl⟩⟩
theorem h_goal {a0 a1 : Int32} (hc : Et G e m_X1_goal [.ref x, .int a0, .int a1] h Φ Ψ) (hd : e < d) (ho : h.1 x = some (.inr (0, fs))) (hz : ∀ v h', Φ v h' → ∃ n lf, v = .int n ∧ h'.1 z = some (lcell lf)) (hx : ∀ c h', Ψ c h' → c = 20) : Ev G d m_X0_goal [.ref x, .int a0, .int a1, .ref z] h (HO z Φ Ψ (fun _ => 1)) := by
  refine wc_in mt_X0_goal rfl (L := [.ref x, .int a0, .int a1, .ref z, am_un]) rfl ?_
  refine r_aload_3 rfl ?_
  refine r_push rfl ?_
  refine r_aload_0 rfl ?_
  refine r_iload_1 rfl ?_
  refine r_iload_2 rfl ?_
  refine r_k rfl (am_invv_ok rfl ho rfl rfl) hd hc (fun R q => ?_)
  rcases q with ⟨v, h1, rfl, q⟩ | ⟨c, h1, rfl, q⟩
  · obtain ⟨n, lf, rfl, o⟩ := hz _ _ q
    show Wp G d mt_X0_goal 8 _ _ h1 _
    refine r_i2l rfl ?_
    refine r_last rfl o (show (0 : Int32) = nI 0 from rfl) (by decide) (by decide) ?_
    refine r_goto rfl ?_
    refine r_push rfl ?_
    refine r_iret rfl ?_
    exact ⟨_, _, rfl, Or.inl ⟨n, h1, lf, q, o, rfl, rfl⟩⟩
  · obtain rfl := hx _ _ q
    show Wp G d mt_X0_goal 15 [.ref x, .int a0, .int a1, .ref z, am_un] [] h1 _
    refine r_push rfl ?_
    refine r_iret rfl ?_
    exact ⟨_, _, rfl, Or.inr ⟨_, q, rfl⟩⟩
theorem h_gravel {a0 : Int32} (hc : Et G e m_X1_gravel [.ref x, .int a0] h Φ Ψ) (hd : e < d) (ho : h.1 x = some (.inr (0, fs))) (hz : ∀ v h', Φ v h' → ∃ n lf, v = .int n ∧ h'.1 z = some (lcell lf)) (hx : ∀ c h', Ψ c h' → c = 18) : Ev G d m_X0_gravel [.ref x, .int a0, .ref z] h (HO z Φ Ψ (fun _ => 1)) := by
  refine wc_in mt_X0_gravel rfl (L := [.ref x, .int a0, .ref z, am_un]) rfl ?_
  refine r_aload_2 rfl ?_
  refine r_push rfl ?_
  refine r_aload_0 rfl ?_
  refine r_iload_1 rfl ?_
  refine r_k rfl (am_invv_ok rfl ho rfl rfl) hd hc (fun R q => ?_)
  rcases q with ⟨v, h1, rfl, q⟩ | ⟨c, h1, rfl, q⟩
  · obtain ⟨n, lf, rfl, o⟩ := hz _ _ q
    show Wp G d mt_X0_gravel 7 _ _ h1 _
    refine r_i2l rfl ?_
    refine r_last rfl o (show (0 : Int32) = nI 0 from rfl) (by decide) (by decide) ?_
    refine r_goto rfl ?_
    refine r_push rfl ?_
    refine r_iret rfl ?_
    exact ⟨_, _, rfl, Or.inl ⟨n, h1, lf, q, o, rfl, rfl⟩⟩
  · obtain rfl := hx _ _ q
    show Wp G d mt_X0_gravel 13 [.ref x, .int a0, .ref z, am_un] [] h1 _
    refine r_push rfl ?_
    refine r_iret rfl ?_
    exact ⟨_, _, rfl, Or.inr ⟨_, q, rfl⟩⟩
theorem h_hours {a0 : Int32} (hc : Et G e m_X1_hours [.ref x, .int a0] h Φ Ψ) (hd : e < d) (ho : h.1 x = some (.inr (0, fs))) (hz : ∀ v h', Φ v h' → ∃ n lf, v = .int n ∧ h'.1 z = some (lcell lf)) (hx : ∀ c h', Ψ c h' → c = 18) : Ev G d m_X0_hours [.ref x, .int a0, .ref z] h (HO z Φ Ψ (fun _ => 1)) := by
  refine wc_in mt_X0_hours rfl (L := [.ref x, .int a0, .ref z, am_un]) rfl ?_
  refine r_aload_2 rfl ?_
  refine r_push rfl ?_
  refine r_aload_0 rfl ?_
  refine r_iload_1 rfl ?_
  refine r_k rfl (am_invv_ok rfl ho rfl rfl) hd hc (fun R q => ?_)
  rcases q with ⟨v, h1, rfl, q⟩ | ⟨c, h1, rfl, q⟩
  · obtain ⟨n, lf, rfl, o⟩ := hz _ _ q
    show Wp G d mt_X0_hours 7 _ _ h1 _
    refine r_i2l rfl ?_
    refine r_last rfl o (show (0 : Int32) = nI 0 from rfl) (by decide) (by decide) ?_
    refine r_goto rfl ?_
    refine r_push rfl ?_
    refine r_iret rfl ?_
    exact ⟨_, _, rfl, Or.inl ⟨n, h1, lf, q, o, rfl, rfl⟩⟩
  · obtain rfl := hx _ _ q
    show Wp G d mt_X0_hours 13 [.ref x, .int a0, .ref z, am_un] [] h1 _
    refine r_push rfl ?_
    refine r_iret rfl ?_
    exact ⟨_, _, rfl, Or.inr ⟨_, q, rfl⟩⟩
theorem h_law (hc : Et G e m_X1_law [.ref x] h Φ Ψ) (hd : e < d) (ho : h.1 x = some (.inr (0, fs))) (hz : ∀ v h', Φ v h' → ∃ n lf, v = .int n ∧ h'.1 z = some (lcell lf)) (hx : ∀ c h', Ψ c h' → c = 18) : Ev G d m_X0_law [.ref x, .ref z] h (HO z Φ Ψ (fun _ => 1)) := by
  refine wc_in mt_X0_law rfl (L := [.ref x, .ref z, am_un]) rfl ?_
  refine r_aload_1 rfl ?_
  refine r_push rfl ?_
  refine r_aload_0 rfl ?_
  refine r_k rfl (am_invv_ok rfl ho rfl rfl) hd hc (fun R q => ?_)
  rcases q with ⟨v, h1, rfl, q⟩ | ⟨c, h1, rfl, q⟩
  · obtain ⟨n, lf, rfl, o⟩ := hz _ _ q
    show Wp G d mt_X0_law 6 _ _ h1 _
    refine r_i2l rfl ?_
    refine r_last rfl o (show (0 : Int32) = nI 0 from rfl) (by decide) (by decide) ?_
    refine r_goto rfl ?_
    refine r_push rfl ?_
    refine r_iret rfl ?_
    exact ⟨_, _, rfl, Or.inl ⟨n, h1, lf, q, o, rfl, rfl⟩⟩
  · obtain rfl := hx _ _ q
    show Wp G d mt_X0_law 12 [.ref x, .ref z, am_un] [] h1 _
    refine r_push rfl ?_
    refine r_iret rfl ?_
    exact ⟨_, _, rfl, Or.inr ⟨_, q, rfl⟩⟩
theorem h_lay {a0 : Int32} (hc : Et G e m_X1_lay [.ref x, .int a0] h Φ Ψ) (hd : e < d) (ho : h.1 x = some (.inr (0, fs))) (hz : ∀ v h', Φ v h' → ∃ n lf, v = .int n ∧ h'.1 z = some (lcell lf)) (hx : ∀ c h', Ψ c h' → c = 20 ∨ c = 22) : Ev G d m_X0_lay [.ref x, .int a0, .ref z] h (HO z Φ Ψ (fun c => if c = 20 then 1 else 2)) := by
  refine wc_in mt_X0_lay rfl (L := [.ref x, .int a0, .ref z, am_un]) rfl ?_
  refine r_aload_2 rfl ?_
  refine r_push rfl ?_
  refine r_aload_0 rfl ?_
  refine r_iload_1 rfl ?_
  refine r_k rfl (am_invv_ok rfl ho rfl rfl) hd hc (fun R q => ?_)
  rcases q with ⟨v, h1, rfl, q⟩ | ⟨c, h1, rfl, q⟩
  · obtain ⟨n, lf, rfl, o⟩ := hz _ _ q
    show Wp G d mt_X0_lay 7 _ _ h1 _
    refine r_i2l rfl ?_
    refine r_last rfl o (show (0 : Int32) = nI 0 from rfl) (by decide) (by decide) ?_
    refine r_goto rfl ?_
    refine r_push rfl ?_
    refine r_iret rfl ?_
    exact ⟨_, _, rfl, Or.inl ⟨n, h1, lf, q, o, rfl, rfl⟩⟩
  · rcases hx _ _ q with rfl | rfl
    · show Wp G d mt_X0_lay 13 [.ref x, .int a0, .ref z, am_un] [] h1 _
      refine r_push rfl ?_
      refine r_iret rfl ?_
      exact ⟨_, _, rfl, Or.inr ⟨_, q, rfl⟩⟩
    · show Wp G d mt_X0_lay 16 [.ref x, .int a0, .ref z, am_un] [] h1 _
      refine r_push rfl ?_
      refine r_iret rfl ?_
      exact ⟨_, _, rfl, Or.inr ⟨_, q, rfl⟩⟩
theorem h_led {a0 a1 : Int32} (hc : Et G e m_X1_led [.ref x, .int a0, .int a1] h Φ Ψ) (hd : e < d) (ho : h.1 x = some (.inr (0, fs))) (hz : ∀ v h', Φ v h' → ∃ n lf, v = .int n ∧ h'.1 z = some (lcell lf)) (hx : ∀ c h', Ψ c h' → c = 20) : Ev G d m_X0_led [.ref x, .int a0, .int a1, .ref z] h (HO z Φ Ψ (fun _ => 1)) := by
  refine wc_in mt_X0_led rfl (L := [.ref x, .int a0, .int a1, .ref z, am_un]) rfl ?_
  refine r_aload_3 rfl ?_
  refine r_push rfl ?_
  refine r_aload_0 rfl ?_
  refine r_iload_1 rfl ?_
  refine r_iload_2 rfl ?_
  refine r_k rfl (am_invv_ok rfl ho rfl rfl) hd hc (fun R q => ?_)
  rcases q with ⟨v, h1, rfl, q⟩ | ⟨c, h1, rfl, q⟩
  · obtain ⟨n, lf, rfl, o⟩ := hz _ _ q
    show Wp G d mt_X0_led 8 _ _ h1 _
    refine r_i2l rfl ?_
    refine r_last rfl o (show (0 : Int32) = nI 0 from rfl) (by decide) (by decide) ?_
    refine r_goto rfl ?_
    refine r_push rfl ?_
    refine r_iret rfl ?_
    exact ⟨_, _, rfl, Or.inl ⟨n, h1, lf, q, o, rfl, rfl⟩⟩
  · obtain rfl := hx _ _ q
    show Wp G d mt_X0_led 15 [.ref x, .int a0, .int a1, .ref z, am_un] [] h1 _
    refine r_push rfl ?_
    refine r_iret rfl ?_
    exact ⟨_, _, rfl, Or.inr ⟨_, q, rfl⟩⟩
theorem h_lend {a0 a1 a2 : Int32} (hc : Et G e m_X1_lend [.ref x, .int a0, .int a1, .int a2] h Φ Ψ) (hd : e < d) (ho : h.1 x = some (.inr (0, fs))) (hz : ∀ v h', Φ v h' → ∃ n lf, v = .int n ∧ h'.1 z = some (lcell lf)) (hx : ∀ c h', Ψ c h' → c = 20 ∨ c = 18 ∨ c = 22) : Ev G d m_X0_lend [.ref x, .int a0, .int a1, .int a2, .ref z] h (HO z Φ Ψ (fun c => if c = 20 then 1 else if c = 18 then 2 else 3)) := by
  refine wc_in mt_X0_lend rfl (L := [.ref x, .int a0, .int a1, .int a2, .ref z, am_un]) rfl ?_
  refine r_aload_4 rfl ?_
  refine r_push rfl ?_
  refine r_aload_0 rfl ?_
  refine r_iload_1 rfl ?_
  refine r_iload_2 rfl ?_
  refine r_iload_3 rfl ?_
  refine r_k rfl (am_invv_ok rfl ho rfl rfl) hd hc (fun R q => ?_)
  rcases q with ⟨v, h1, rfl, q⟩ | ⟨c, h1, rfl, q⟩
  · obtain ⟨n, lf, rfl, o⟩ := hz _ _ q
    show Wp G d mt_X0_lend 10 _ _ h1 _
    refine r_i2l rfl ?_
    refine r_last rfl o (show (0 : Int32) = nI 0 from rfl) (by decide) (by decide) ?_
    refine r_goto rfl ?_
    refine r_push rfl ?_
    refine r_iret rfl ?_
    exact ⟨_, _, rfl, Or.inl ⟨n, h1, lf, q, o, rfl, rfl⟩⟩
  · rcases hx _ _ q with rfl | rfl | rfl
    · show Wp G d mt_X0_lend 17 [.ref x, .int a0, .int a1, .int a2, .ref z, am_un] [] h1 _
      refine r_push rfl ?_
      refine r_iret rfl ?_
      exact ⟨_, _, rfl, Or.inr ⟨_, q, rfl⟩⟩
    · show Wp G d mt_X0_lend 21 [.ref x, .int a0, .int a1, .int a2, .ref z, am_un] [] h1 _
      refine r_push rfl ?_
      refine r_iret rfl ?_
      exact ⟨_, _, rfl, Or.inr ⟨_, q, rfl⟩⟩
    · show Wp G d mt_X0_lend 25 [.ref x, .int a0, .int a1, .int a2, .ref z, am_un] [] h1 _
      refine r_push rfl ?_
      refine r_iret rfl ?_
      exact ⟨_, _, rfl, Or.inr ⟨_, q, rfl⟩⟩
theorem h_lift {a0 a1 : Int32} (hc : Et G e m_X1_lift [.ref x, .int a0, .int a1] h Φ Ψ) (hd : e < d) (ho : h.1 x = some (.inr (0, fs))) (hz : ∀ v h', Φ v h' → ∃ n lf, v = .int n ∧ h'.1 z = some (lcell lf)) (hx : ∀ c h', Ψ c h' → c = 20 ∨ c = 22) : Ev G d m_X0_lift [.ref x, .int a0, .int a1, .ref z] h (HO z Φ Ψ (fun c => if c = 20 then 1 else 2)) := by
  refine wc_in mt_X0_lift rfl (L := [.ref x, .int a0, .int a1, .ref z, am_un]) rfl ?_
  refine r_aload_3 rfl ?_
  refine r_push rfl ?_
  refine r_aload_0 rfl ?_
  refine r_iload_1 rfl ?_
  refine r_iload_2 rfl ?_
  refine r_k rfl (am_invv_ok rfl ho rfl rfl) hd hc (fun R q => ?_)
  rcases q with ⟨v, h1, rfl, q⟩ | ⟨c, h1, rfl, q⟩
  · obtain ⟨n, lf, rfl, o⟩ := hz _ _ q
    show Wp G d mt_X0_lift 8 _ _ h1 _
    refine r_i2l rfl ?_
    refine r_last rfl o (show (0 : Int32) = nI 0 from rfl) (by decide) (by decide) ?_
    refine r_goto rfl ?_
    refine r_push rfl ?_
    refine r_iret rfl ?_
    exact ⟨_, _, rfl, Or.inl ⟨n, h1, lf, q, o, rfl, rfl⟩⟩
  · rcases hx _ _ q with rfl | rfl
    · show Wp G d mt_X0_lift 15 [.ref x, .int a0, .int a1, .ref z, am_un] [] h1 _
      refine r_push rfl ?_
      refine r_iret rfl ?_
      exact ⟨_, _, rfl, Or.inr ⟨_, q, rfl⟩⟩
    · show Wp G d mt_X0_lift 19 [.ref x, .int a0, .int a1, .ref z, am_un] [] h1 _
      refine r_push rfl ?_
      refine r_iret rfl ?_
      exact ⟨_, _, rfl, Or.inr ⟨_, q, rfl⟩⟩
theorem h_log {a0 a1 : Int32} (hc : Et G e m_X1_log [.ref x, .int a0, .int a1] h Φ Ψ) (hd : e < d) (ho : h.1 x = some (.inr (0, fs))) (hz : ∀ v h', Φ v h' → ∃ n lf, v = .int n ∧ h'.1 z = some (lcell lf)) (hx : ∀ c h', Ψ c h' → c = 21) : Ev G d m_X0_log [.ref x, .int a0, .int a1, .ref z] h (HO z Φ Ψ (fun _ => 1)) := by
  refine wc_in mt_X0_log rfl (L := [.ref x, .int a0, .int a1, .ref z, am_un]) rfl ?_
  refine r_aload_3 rfl ?_
  refine r_push rfl ?_
  refine r_aload_0 rfl ?_
  refine r_iload_1 rfl ?_
  refine r_iload_2 rfl ?_
  refine r_k rfl (am_invv_ok rfl ho rfl rfl) hd hc (fun R q => ?_)
  rcases q with ⟨v, h1, rfl, q⟩ | ⟨c, h1, rfl, q⟩
  · obtain ⟨n, lf, rfl, o⟩ := hz _ _ q
    show Wp G d mt_X0_log 8 _ _ h1 _
    refine r_i2l rfl ?_
    refine r_last rfl o (show (0 : Int32) = nI 0 from rfl) (by decide) (by decide) ?_
    refine r_goto rfl ?_
    refine r_push rfl ?_
    refine r_iret rfl ?_
    exact ⟨_, _, rfl, Or.inl ⟨n, h1, lf, q, o, rfl, rfl⟩⟩
  · obtain rfl := hx _ _ q
    show Wp G d mt_X0_log 15 [.ref x, .int a0, .int a1, .ref z, am_un] [] h1 _
    refine r_push rfl ?_
    refine r_iret rfl ?_
    exact ⟨_, _, rfl, Or.inr ⟨_, q, rfl⟩⟩
theorem h_owes {a0 a1 : Int32} (hc : Et G e m_X1_owes [.ref x, .int a0, .int a1] h Φ Ψ) (hd : e < d) (ho : h.1 x = some (.inr (0, fs))) (hz : ∀ v h', Φ v h' → ∃ n lf, v = .int n ∧ h'.1 z = some (lcell lf) ∧ (n = 0 ∨ n = 1)) (hx : ∀ c h', Ψ c h' → c = 20 ∨ c = 18) : Ev G d m_X0_owes [.ref x, .int a0, .int a1, .ref z] h (HO z Φ Ψ (fun c => if c = 20 then 1 else 2)) := by
  refine wc_in mt_X0_owes rfl (L := [.ref x, .int a0, .int a1, .ref z, am_un]) rfl ?_
  refine r_aload_3 rfl ?_
  refine r_push rfl ?_
  refine r_aload_0 rfl ?_
  refine r_iload_1 rfl ?_
  refine r_iload_2 rfl ?_
  refine r_k rfl (am_invv_ok rfl ho rfl rfl) hd hc (fun R q => ?_)
  rcases q with ⟨v, h1, rfl, q⟩ | ⟨c, h1, rfl, q⟩
  · obtain ⟨n, lf, rfl, o, hn⟩ := hz _ _ q
    show Wp G d mt_X0_owes 8 _ _ h1 _
    rcases hn with rfl | rfl
    · refine r_ifeqT rfl (by decide) ?_
      refine r_push rfl ?_
      refine r_last rfl o (show (0 : Int32) = nI 0 from rfl) (by decide) (by decide) ?_
      refine r_goto rfl ?_
      refine r_push rfl ?_
      refine r_iret rfl ?_
      exact ⟨_, _, rfl, Or.inl ⟨_, h1, lf, q, o, rfl, rfl⟩⟩
    · refine r_ifeqF rfl (by decide) ?_
      refine r_push rfl ?_
      refine r_goto rfl ?_
      refine r_last rfl o (show (0 : Int32) = nI 0 from rfl) (by decide) (by decide) ?_
      refine r_goto rfl ?_
      refine r_push rfl ?_
      refine r_iret rfl ?_
      exact ⟨_, _, rfl, Or.inl ⟨_, h1, lf, q, o, rfl, rfl⟩⟩
  · rcases hx _ _ q with rfl | rfl
    · show Wp G d mt_X0_owes 22 [.ref x, .int a0, .int a1, .ref z, am_un] [] h1 _
      refine r_push rfl ?_
      refine r_iret rfl ?_
      exact ⟨_, _, rfl, Or.inr ⟨_, q, rfl⟩⟩
    · show Wp G d mt_X0_owes 26 [.ref x, .int a0, .int a1, .ref z, am_un] [] h1 _
      refine r_push rfl ?_
      refine r_iret rfl ?_
      exact ⟨_, _, rfl, Or.inr ⟨_, q, rfl⟩⟩
theorem h_pass {a0 a1 : Int32} (hc : Et G e m_X1_pass [.ref x, .int a0, .int a1] h Φ Ψ) (hd : e < d) (ho : h.1 x = some (.inr (0, fs))) (hz : ∀ v h', Φ v h' → ∃ n lf, v = .int n ∧ h'.1 z = some (lcell lf)) (hx : ∀ c h', Ψ c h' → c = 20 ∨ c = 18 ∨ c = 22) : Ev G d m_X0_pass [.ref x, .int a0, .int a1, .ref z] h (HO z Φ Ψ (fun c => if c = 20 then 1 else if c = 18 then 2 else 3)) := by
  refine wc_in mt_X0_pass rfl (L := [.ref x, .int a0, .int a1, .ref z, am_un]) rfl ?_
  refine r_aload_3 rfl ?_
  refine r_push rfl ?_
  refine r_aload_0 rfl ?_
  refine r_iload_1 rfl ?_
  refine r_iload_2 rfl ?_
  refine r_k rfl (am_invv_ok rfl ho rfl rfl) hd hc (fun R q => ?_)
  rcases q with ⟨v, h1, rfl, q⟩ | ⟨c, h1, rfl, q⟩
  · obtain ⟨n, lf, rfl, o⟩ := hz _ _ q
    show Wp G d mt_X0_pass 8 _ _ h1 _
    refine r_i2l rfl ?_
    refine r_last rfl o (show (0 : Int32) = nI 0 from rfl) (by decide) (by decide) ?_
    refine r_goto rfl ?_
    refine r_push rfl ?_
    refine r_iret rfl ?_
    exact ⟨_, _, rfl, Or.inl ⟨n, h1, lf, q, o, rfl, rfl⟩⟩
  · rcases hx _ _ q with rfl | rfl | rfl
    · show Wp G d mt_X0_pass 15 [.ref x, .int a0, .int a1, .ref z, am_un] [] h1 _
      refine r_push rfl ?_
      refine r_iret rfl ?_
      exact ⟨_, _, rfl, Or.inr ⟨_, q, rfl⟩⟩
    · show Wp G d mt_X0_pass 19 [.ref x, .int a0, .int a1, .ref z, am_un] [] h1 _
      refine r_push rfl ?_
      refine r_iret rfl ?_
      exact ⟨_, _, rfl, Or.inr ⟨_, q, rfl⟩⟩
    · show Wp G d mt_X0_pass 23 [.ref x, .int a0, .int a1, .ref z, am_un] [] h1 _
      refine r_push rfl ?_
      refine r_iret rfl ?_
      exact ⟨_, _, rfl, Or.inr ⟨_, q, rfl⟩⟩
theorem h_pay {a0 : Int32} (hc : Et G e m_X1_pay [.ref x, .int a0] h Φ Ψ) (hd : e < d) (ho : h.1 x = some (.inr (0, fs))) (hz : ∀ v h', Φ v h' → ∃ n lf, v = .int n ∧ h'.1 z = some (lcell lf)) (hx : ∀ c h', Ψ c h' → c = 20 ∨ c = 22) : Ev G d m_X0_pay [.ref x, .int a0, .ref z] h (HO z Φ Ψ (fun c => if c = 20 then 1 else 2)) := by
  refine wc_in mt_X0_pay rfl (L := [.ref x, .int a0, .ref z, am_un]) rfl ?_
  refine r_aload_2 rfl ?_
  refine r_push rfl ?_
  refine r_aload_0 rfl ?_
  refine r_iload_1 rfl ?_
  refine r_k rfl (am_invv_ok rfl ho rfl rfl) hd hc (fun R q => ?_)
  rcases q with ⟨v, h1, rfl, q⟩ | ⟨c, h1, rfl, q⟩
  · obtain ⟨n, lf, rfl, o⟩ := hz _ _ q
    show Wp G d mt_X0_pay 7 _ _ h1 _
    refine r_i2l rfl ?_
    refine r_last rfl o (show (0 : Int32) = nI 0 from rfl) (by decide) (by decide) ?_
    refine r_goto rfl ?_
    refine r_push rfl ?_
    refine r_iret rfl ?_
    exact ⟨_, _, rfl, Or.inl ⟨n, h1, lf, q, o, rfl, rfl⟩⟩
  · rcases hx _ _ q with rfl | rfl
    · show Wp G d mt_X0_pay 13 [.ref x, .int a0, .ref z, am_un] [] h1 _
      refine r_push rfl ?_
      refine r_iret rfl ?_
      exact ⟨_, _, rfl, Or.inr ⟨_, q, rfl⟩⟩
    · show Wp G d mt_X0_pay 16 [.ref x, .int a0, .ref z, am_un] [] h1 _
      refine r_push rfl ?_
      refine r_iret rfl ?_
      exact ⟨_, _, rfl, Or.inr ⟨_, q, rfl⟩⟩
theorem h_pays {a0 a1 : Int32} (hc : Et G e m_X1_pays [.ref x, .int a0, .int a1] h Φ Ψ) (hd : e < d) (ho : h.1 x = some (.inr (0, fs))) (hz : ∀ v h', Φ v h' → ∃ n lf, v = .int n ∧ h'.1 z = some (lcell lf)) (hx : ∀ c h', Ψ c h' → c = 20) : Ev G d m_X0_pays [.ref x, .int a0, .int a1, .ref z] h (HO z Φ Ψ (fun _ => 1)) := by
  refine wc_in mt_X0_pays rfl (L := [.ref x, .int a0, .int a1, .ref z, am_un]) rfl ?_
  refine r_aload_3 rfl ?_
  refine r_push rfl ?_
  refine r_aload_0 rfl ?_
  refine r_iload_1 rfl ?_
  refine r_iload_2 rfl ?_
  refine r_k rfl (am_invv_ok rfl ho rfl rfl) hd hc (fun R q => ?_)
  rcases q with ⟨v, h1, rfl, q⟩ | ⟨c, h1, rfl, q⟩
  · obtain ⟨n, lf, rfl, o⟩ := hz _ _ q
    show Wp G d mt_X0_pays 8 _ _ h1 _
    refine r_i2l rfl ?_
    refine r_last rfl o (show (0 : Int32) = nI 0 from rfl) (by decide) (by decide) ?_
    refine r_goto rfl ?_
    refine r_push rfl ?_
    refine r_iret rfl ?_
    exact ⟨_, _, rfl, Or.inl ⟨n, h1, lf, q, o, rfl, rfl⟩⟩
  · obtain rfl := hx _ _ q
    show Wp G d mt_X0_pays 15 [.ref x, .int a0, .int a1, .ref z, am_un] [] h1 _
    refine r_push rfl ?_
    refine r_iret rfl ?_
    exact ⟨_, _, rfl, Or.inr ⟨_, q, rfl⟩⟩
theorem h_person {a0 a1 : Int32} (hc : Et G e m_X1_person [.ref x, .int a0, .int a1] h Φ Ψ) (hd : e < d) (ho : h.1 x = some (.inr (0, fs))) (hz : ∀ v h', Φ v h' → ∃ n lf, v = .int n ∧ h'.1 z = some (lcell lf)) (hx : ∀ c h', Ψ c h' → c = 20 ∨ c = 21) : Ev G d m_X0_person [.ref x, .int a0, .int a1, .ref z] h (HO z Φ Ψ (fun c => if c = 20 then 1 else 2)) := by
  refine wc_in mt_X0_person rfl (L := [.ref x, .int a0, .int a1, .ref z, am_un]) rfl ?_
  refine r_aload_3 rfl ?_
  refine r_push rfl ?_
  refine r_aload_0 rfl ?_
  refine r_iload_1 rfl ?_
  refine r_iload_2 rfl ?_
  refine r_k rfl (am_invv_ok rfl ho rfl rfl) hd hc (fun R q => ?_)
  rcases q with ⟨v, h1, rfl, q⟩ | ⟨c, h1, rfl, q⟩
  · obtain ⟨n, lf, rfl, o⟩ := hz _ _ q
    show Wp G d mt_X0_person 8 _ _ h1 _
    refine r_i2l rfl ?_
    refine r_last rfl o (show (0 : Int32) = nI 0 from rfl) (by decide) (by decide) ?_
    refine r_goto rfl ?_
    refine r_push rfl ?_
    refine r_iret rfl ?_
    exact ⟨_, _, rfl, Or.inl ⟨n, h1, lf, q, o, rfl, rfl⟩⟩
  · rcases hx _ _ q with rfl | rfl
    · show Wp G d mt_X0_person 15 [.ref x, .int a0, .int a1, .ref z, am_un] [] h1 _
      refine r_push rfl ?_
      refine r_iret rfl ?_
      exact ⟨_, _, rfl, Or.inr ⟨_, q, rfl⟩⟩
    · show Wp G d mt_X0_person 19 [.ref x, .int a0, .int a1, .ref z, am_un] [] h1 _
      refine r_push rfl ?_
      refine r_iret rfl ?_
      exact ⟨_, _, rfl, Or.inr ⟨_, q, rfl⟩⟩
theorem h_place {a0 a1 : Int32} (hc : Et G e m_X1_place [.ref x, .int a0, .int a1] h Φ Ψ) (hd : e < d) (ho : h.1 x = some (.inr (0, fs))) (hz : ∀ v h', Φ v h' → ∃ n lf, v = .int n ∧ h'.1 z = some (lcell lf)) (hx : ∀ c h', Ψ c h' → c = 20 ∨ c = 21) : Ev G d m_X0_place [.ref x, .int a0, .int a1, .ref z] h (HO z Φ Ψ (fun c => if c = 20 then 1 else 2)) := by
  refine wc_in mt_X0_place rfl (L := [.ref x, .int a0, .int a1, .ref z, am_un]) rfl ?_
  refine r_aload_3 rfl ?_
  refine r_push rfl ?_
  refine r_aload_0 rfl ?_
  refine r_iload_1 rfl ?_
  refine r_iload_2 rfl ?_
  refine r_k rfl (am_invv_ok rfl ho rfl rfl) hd hc (fun R q => ?_)
  rcases q with ⟨v, h1, rfl, q⟩ | ⟨c, h1, rfl, q⟩
  · obtain ⟨n, lf, rfl, o⟩ := hz _ _ q
    show Wp G d mt_X0_place 8 _ _ h1 _
    refine r_i2l rfl ?_
    refine r_last rfl o (show (0 : Int32) = nI 0 from rfl) (by decide) (by decide) ?_
    refine r_goto rfl ?_
    refine r_push rfl ?_
    refine r_iret rfl ?_
    exact ⟨_, _, rfl, Or.inl ⟨n, h1, lf, q, o, rfl, rfl⟩⟩
  · rcases hx _ _ q with rfl | rfl
    · show Wp G d mt_X0_place 15 [.ref x, .int a0, .int a1, .ref z, am_un] [] h1 _
      refine r_push rfl ?_
      refine r_iret rfl ?_
      exact ⟨_, _, rfl, Or.inr ⟨_, q, rfl⟩⟩
    · show Wp G d mt_X0_place 19 [.ref x, .int a0, .int a1, .ref z, am_un] [] h1 _
      refine r_push rfl ?_
      refine r_iret rfl ?_
      exact ⟨_, _, rfl, Or.inr ⟨_, q, rfl⟩⟩
theorem h_rest {a0 : Int32} (hc : Et G e m_X1_rest [.ref x, .int a0] h Φ Ψ) (hd : e < d) (ho : h.1 x = some (.inr (0, fs))) (hz : ∀ v h', Φ v h' → ∃ n lf, v = .int n ∧ h'.1 z = some (lcell lf)) (hx : ∀ c h', Ψ c h' → c = 20) : Ev G d m_X0_rest [.ref x, .int a0, .ref z] h (HO z Φ Ψ (fun _ => 1)) := by
  refine wc_in mt_X0_rest rfl (L := [.ref x, .int a0, .ref z, am_un]) rfl ?_
  refine r_aload_2 rfl ?_
  refine r_push rfl ?_
  refine r_aload_0 rfl ?_
  refine r_iload_1 rfl ?_
  refine r_k rfl (am_invv_ok rfl ho rfl rfl) hd hc (fun R q => ?_)
  rcases q with ⟨v, h1, rfl, q⟩ | ⟨c, h1, rfl, q⟩
  · obtain ⟨n, lf, rfl, o⟩ := hz _ _ q
    show Wp G d mt_X0_rest 7 _ _ h1 _
    refine r_i2l rfl ?_
    refine r_last rfl o (show (0 : Int32) = nI 0 from rfl) (by decide) (by decide) ?_
    refine r_goto rfl ?_
    refine r_push rfl ?_
    refine r_iret rfl ?_
    exact ⟨_, _, rfl, Or.inl ⟨n, h1, lf, q, o, rfl, rfl⟩⟩
  · obtain rfl := hx _ _ q
    show Wp G d mt_X0_rest 13 [.ref x, .int a0, .ref z, am_un] [] h1 _
    refine r_push rfl ?_
    refine r_iret rfl ?_
    exact ⟨_, _, rfl, Or.inr ⟨_, q, rfl⟩⟩
theorem h_rests {a0 a1 a2 : Int32} (hc : Et G e m_X1_rests [.ref x, .int a0, .int a1, .int a2] h Φ Ψ) (hd : e < d) (ho : h.1 x = some (.inr (0, fs))) (hz : ∀ v h', Φ v h' → ∃ n lf, v = .int n ∧ h'.1 z = some (lcell lf)) (hx : ∀ c h', Ψ c h' → c = 20 ∨ c = 18) : Ev G d m_X0_rests [.ref x, .int a0, .int a1, .int a2, .ref z] h (HO z Φ Ψ (fun c => if c = 20 then 1 else 2)) := by
  refine wc_in mt_X0_rests rfl (L := [.ref x, .int a0, .int a1, .int a2, .ref z, am_un]) rfl ?_
  refine r_aload_4 rfl ?_
  refine r_push rfl ?_
  refine r_aload_0 rfl ?_
  refine r_iload_1 rfl ?_
  refine r_iload_2 rfl ?_
  refine r_iload_3 rfl ?_
  refine r_k rfl (am_invv_ok rfl ho rfl rfl) hd hc (fun R q => ?_)
  rcases q with ⟨v, h1, rfl, q⟩ | ⟨c, h1, rfl, q⟩
  · obtain ⟨n, lf, rfl, o⟩ := hz _ _ q
    show Wp G d mt_X0_rests 10 _ _ h1 _
    refine r_i2l rfl ?_
    refine r_last rfl o (show (0 : Int32) = nI 0 from rfl) (by decide) (by decide) ?_
    refine r_goto rfl ?_
    refine r_push rfl ?_
    refine r_iret rfl ?_
    exact ⟨_, _, rfl, Or.inl ⟨n, h1, lf, q, o, rfl, rfl⟩⟩
  · rcases hx _ _ q with rfl | rfl
    · show Wp G d mt_X0_rests 17 [.ref x, .int a0, .int a1, .int a2, .ref z, am_un] [] h1 _
      refine r_push rfl ?_
      refine r_iret rfl ?_
      exact ⟨_, _, rfl, Or.inr ⟨_, q, rfl⟩⟩
    · show Wp G d mt_X0_rests 21 [.ref x, .int a0, .int a1, .int a2, .ref z, am_un] [] h1 _
      refine r_push rfl ?_
      refine r_iret rfl ?_
      exact ⟨_, _, rfl, Or.inr ⟨_, q, rfl⟩⟩
theorem h_scales {a0 : Int32} (hc : Et G e m_X1_scales [.ref x, .int a0] h Φ Ψ) (hd : e < d) (ho : h.1 x = some (.inr (0, fs))) (hz : ∀ v h', Φ v h' → ∃ n lf, v = .int n ∧ h'.1 z = some (lcell lf)) (hx : ∀ c h', Ψ c h' → c = 18) : Ev G d m_X0_scales [.ref x, .int a0, .ref z] h (HO z Φ Ψ (fun _ => 1)) := by
  refine wc_in mt_X0_scales rfl (L := [.ref x, .int a0, .ref z, am_un]) rfl ?_
  refine r_aload_2 rfl ?_
  refine r_push rfl ?_
  refine r_aload_0 rfl ?_
  refine r_iload_1 rfl ?_
  refine r_k rfl (am_invv_ok rfl ho rfl rfl) hd hc (fun R q => ?_)
  rcases q with ⟨v, h1, rfl, q⟩ | ⟨c, h1, rfl, q⟩
  · obtain ⟨n, lf, rfl, o⟩ := hz _ _ q
    show Wp G d mt_X0_scales 7 _ _ h1 _
    refine r_i2l rfl ?_
    refine r_last rfl o (show (0 : Int32) = nI 0 from rfl) (by decide) (by decide) ?_
    refine r_goto rfl ?_
    refine r_push rfl ?_
    refine r_iret rfl ?_
    exact ⟨_, _, rfl, Or.inl ⟨n, h1, lf, q, o, rfl, rfl⟩⟩
  · obtain rfl := hx _ _ q
    show Wp G d mt_X0_scales 13 [.ref x, .int a0, .ref z, am_un] [] h1 _
    refine r_push rfl ?_
    refine r_iret rfl ?_
    exact ⟨_, _, rfl, Or.inr ⟨_, q, rfl⟩⟩
theorem h_share {a0 a1 : Int32} (hc : Et G e m_X1_share [.ref x, .int a0, .int a1] h Φ Ψ) (hd : e < d) (ho : h.1 x = some (.inr (0, fs))) (hz : ∀ v h', Φ v h' → ∃ n lf, v = .int n ∧ h'.1 z = some (lcell lf)) (hx : ∀ c h', Ψ c h' → c = 20) : Ev G d m_X0_share [.ref x, .int a0, .int a1, .ref z] h (HO z Φ Ψ (fun _ => 1)) := by
  refine wc_in mt_X0_share rfl (L := [.ref x, .int a0, .int a1, .ref z, am_un]) rfl ?_
  refine r_aload_3 rfl ?_
  refine r_push rfl ?_
  refine r_aload_0 rfl ?_
  refine r_iload_1 rfl ?_
  refine r_iload_2 rfl ?_
  refine r_k rfl (am_invv_ok rfl ho rfl rfl) hd hc (fun R q => ?_)
  rcases q with ⟨v, h1, rfl, q⟩ | ⟨c, h1, rfl, q⟩
  · obtain ⟨n, lf, rfl, o⟩ := hz _ _ q
    show Wp G d mt_X0_share 8 _ _ h1 _
    refine r_i2l rfl ?_
    refine r_last rfl o (show (0 : Int32) = nI 0 from rfl) (by decide) (by decide) ?_
    refine r_goto rfl ?_
    refine r_push rfl ?_
    refine r_iret rfl ?_
    exact ⟨_, _, rfl, Or.inl ⟨n, h1, lf, q, o, rfl, rfl⟩⟩
  · obtain rfl := hx _ _ q
    show Wp G d mt_X0_share 15 [.ref x, .int a0, .int a1, .ref z, am_un] [] h1 _
    refine r_push rfl ?_
    refine r_iret rfl ?_
    exact ⟨_, _, rfl, Or.inr ⟨_, q, rfl⟩⟩
theorem h_shed {a0 : Int32} (hc : Et G e m_X1_shed [.ref x, .int a0] h Φ Ψ) (hd : e < d) (ho : h.1 x = some (.inr (0, fs))) (hz : ∀ v h', Φ v h' → ∃ n lf, v = .int n ∧ h'.1 z = some (lcell lf)) (hx : ∀ c h', Ψ c h' → c = 20) : Ev G d m_X0_shed [.ref x, .int a0, .ref z] h (HO z Φ Ψ (fun _ => 1)) := by
  refine wc_in mt_X0_shed rfl (L := [.ref x, .int a0, .ref z, am_un]) rfl ?_
  refine r_aload_2 rfl ?_
  refine r_push rfl ?_
  refine r_aload_0 rfl ?_
  refine r_iload_1 rfl ?_
  refine r_k rfl (am_invv_ok rfl ho rfl rfl) hd hc (fun R q => ?_)
  rcases q with ⟨v, h1, rfl, q⟩ | ⟨c, h1, rfl, q⟩
  · obtain ⟨n, lf, rfl, o⟩ := hz _ _ q
    show Wp G d mt_X0_shed 7 _ _ h1 _
    refine r_i2l rfl ?_
    refine r_last rfl o (show (0 : Int32) = nI 0 from rfl) (by decide) (by decide) ?_
    refine r_goto rfl ?_
    refine r_push rfl ?_
    refine r_iret rfl ?_
    exact ⟨_, _, rfl, Or.inl ⟨n, h1, lf, q, o, rfl, rfl⟩⟩
  · obtain rfl := hx _ _ q
    show Wp G d mt_X0_shed 13 [.ref x, .int a0, .ref z, am_un] [] h1 _
    refine r_push rfl ?_
    refine r_iret rfl ?_
    exact ⟨_, _, rfl, Or.inr ⟨_, q, rfl⟩⟩
theorem h_soonest {a0 : Int32} (hc : Et G e m_X1_soonest [.ref x, .int a0] h Φ Ψ) (hd : e < d) (ho : h.1 x = some (.inr (0, fs))) (hz : ∀ v h', Φ v h' → ∃ n lf, v = .int n ∧ h'.1 z = some (lcell lf)) (hx : ∀ c h', Ψ c h' → c = 20) : Ev G d m_X0_soonest [.ref x, .int a0, .ref z] h (HO z Φ Ψ (fun _ => 1)) := by
  refine wc_in mt_X0_soonest rfl (L := [.ref x, .int a0, .ref z, am_un]) rfl ?_
  refine r_aload_2 rfl ?_
  refine r_push rfl ?_
  refine r_aload_0 rfl ?_
  refine r_iload_1 rfl ?_
  refine r_k rfl (am_invv_ok rfl ho rfl rfl) hd hc (fun R q => ?_)
  rcases q with ⟨v, h1, rfl, q⟩ | ⟨c, h1, rfl, q⟩
  · obtain ⟨n, lf, rfl, o⟩ := hz _ _ q
    show Wp G d mt_X0_soonest 7 _ _ h1 _
    refine r_i2l rfl ?_
    refine r_last rfl o (show (0 : Int32) = nI 0 from rfl) (by decide) (by decide) ?_
    refine r_goto rfl ?_
    refine r_push rfl ?_
    refine r_iret rfl ?_
    exact ⟨_, _, rfl, Or.inl ⟨n, h1, lf, q, o, rfl, rfl⟩⟩
  · obtain rfl := hx _ _ q
    show Wp G d mt_X0_soonest 13 [.ref x, .int a0, .ref z, am_un] [] h1 _
    refine r_push rfl ?_
    refine r_iret rfl ?_
    exact ⟨_, _, rfl, Or.inr ⟨_, q, rfl⟩⟩
theorem h_span {a0 a1 : Int32} (hc : Et G e m_X1_span [.ref x, .int a0, .int a1] h Φ Ψ) (hd : e < d) (ho : h.1 x = some (.inr (0, fs))) (hz : ∀ v h', Φ v h' → ∃ n lf, v = .int n ∧ h'.1 z = some (lcell lf)) (hx : ∀ c h', Ψ c h' → c = 18) : Ev G d m_X0_span [.ref x, .int a0, .int a1, .ref z] h (HO z Φ Ψ (fun _ => 1)) := by
  refine wc_in mt_X0_span rfl (L := [.ref x, .int a0, .int a1, .ref z, am_un]) rfl ?_
  refine r_aload_3 rfl ?_
  refine r_push rfl ?_
  refine r_aload_0 rfl ?_
  refine r_iload_1 rfl ?_
  refine r_iload_2 rfl ?_
  refine r_k rfl (am_invv_ok rfl ho rfl rfl) hd hc (fun R q => ?_)
  rcases q with ⟨v, h1, rfl, q⟩ | ⟨c, h1, rfl, q⟩
  · obtain ⟨n, lf, rfl, o⟩ := hz _ _ q
    show Wp G d mt_X0_span 8 _ _ h1 _
    refine r_i2l rfl ?_
    refine r_last rfl o (show (0 : Int32) = nI 0 from rfl) (by decide) (by decide) ?_
    refine r_goto rfl ?_
    refine r_push rfl ?_
    refine r_iret rfl ?_
    exact ⟨_, _, rfl, Or.inl ⟨n, h1, lf, q, o, rfl, rfl⟩⟩
  · obtain rfl := hx _ _ q
    show Wp G d mt_X0_span 15 [.ref x, .int a0, .int a1, .ref z, am_un] [] h1 _
    refine r_push rfl ?_
    refine r_iret rfl ?_
    exact ⟨_, _, rfl, Or.inr ⟨_, q, rfl⟩⟩
theorem h_split {a0 : Int32} (hc : Et G e m_X1_split [.ref x, .int a0] h Φ Ψ) (hd : e < d) (ho : h.1 x = some (.inr (0, fs))) (hz : ∀ v h', Φ v h' → ∃ n lf, v = .int n ∧ h'.1 z = some (lcell lf)) (hx : ∀ c h', Ψ c h' → c = 20 ∨ c = 22) : Ev G d m_X0_split [.ref x, .int a0, .ref z] h (HO z Φ Ψ (fun c => if c = 20 then 1 else 2)) := by
  refine wc_in mt_X0_split rfl (L := [.ref x, .int a0, .ref z, am_un]) rfl ?_
  refine r_aload_2 rfl ?_
  refine r_push rfl ?_
  refine r_aload_0 rfl ?_
  refine r_iload_1 rfl ?_
  refine r_k rfl (am_invv_ok rfl ho rfl rfl) hd hc (fun R q => ?_)
  rcases q with ⟨v, h1, rfl, q⟩ | ⟨c, h1, rfl, q⟩
  · obtain ⟨n, lf, rfl, o⟩ := hz _ _ q
    show Wp G d mt_X0_split 7 _ _ h1 _
    refine r_i2l rfl ?_
    refine r_last rfl o (show (0 : Int32) = nI 0 from rfl) (by decide) (by decide) ?_
    refine r_goto rfl ?_
    refine r_push rfl ?_
    refine r_iret rfl ?_
    exact ⟨_, _, rfl, Or.inl ⟨n, h1, lf, q, o, rfl, rfl⟩⟩
  · rcases hx _ _ q with rfl | rfl
    · show Wp G d mt_X0_split 13 [.ref x, .int a0, .ref z, am_un] [] h1 _
      refine r_push rfl ?_
      refine r_iret rfl ?_
      exact ⟨_, _, rfl, Or.inr ⟨_, q, rfl⟩⟩
    · show Wp G d mt_X0_split 16 [.ref x, .int a0, .ref z, am_un] [] h1 _
      refine r_push rfl ?_
      refine r_iret rfl ?_
      exact ⟨_, _, rfl, Or.inr ⟨_, q, rfl⟩⟩
theorem h_stone {a0 a1 : Int32} (hc : Et G e m_X1_stone [.ref x, .int a0, .int a1] h Φ Ψ) (hd : e < d) (ho : h.1 x = some (.inr (0, fs))) (hz : ∀ v h', Φ v h' → ∃ n lf, v = .int n ∧ h'.1 z = some (lcell lf)) (hx : ∀ c h', Ψ c h' → c = 20 ∨ c = 21) : Ev G d m_X0_stone [.ref x, .int a0, .int a1, .ref z] h (HO z Φ Ψ (fun c => if c = 20 then 1 else 2)) := by
  refine wc_in mt_X0_stone rfl (L := [.ref x, .int a0, .int a1, .ref z, am_un]) rfl ?_
  refine r_aload_3 rfl ?_
  refine r_push rfl ?_
  refine r_aload_0 rfl ?_
  refine r_iload_1 rfl ?_
  refine r_iload_2 rfl ?_
  refine r_k rfl (am_invv_ok rfl ho rfl rfl) hd hc (fun R q => ?_)
  rcases q with ⟨v, h1, rfl, q⟩ | ⟨c, h1, rfl, q⟩
  · obtain ⟨n, lf, rfl, o⟩ := hz _ _ q
    show Wp G d mt_X0_stone 8 _ _ h1 _
    refine r_i2l rfl ?_
    refine r_last rfl o (show (0 : Int32) = nI 0 from rfl) (by decide) (by decide) ?_
    refine r_goto rfl ?_
    refine r_push rfl ?_
    refine r_iret rfl ?_
    exact ⟨_, _, rfl, Or.inl ⟨n, h1, lf, q, o, rfl, rfl⟩⟩
  · rcases hx _ _ q with rfl | rfl
    · show Wp G d mt_X0_stone 15 [.ref x, .int a0, .int a1, .ref z, am_un] [] h1 _
      refine r_push rfl ?_
      refine r_iret rfl ?_
      exact ⟨_, _, rfl, Or.inr ⟨_, q, rfl⟩⟩
    · show Wp G d mt_X0_stone 19 [.ref x, .int a0, .int a1, .ref z, am_un] [] h1 _
      refine r_push rfl ?_
      refine r_iret rfl ?_
      exact ⟨_, _, rfl, Or.inr ⟨_, q, rfl⟩⟩
theorem h_trial {a0 a1 : Int32} (hc : Et G e m_X1_trial [.ref x, .int a0, .int a1] h Φ Ψ) (hd : e < d) (ho : h.1 x = some (.inr (0, fs))) (hz : ∀ v h', Φ v h' → ∃ n lf, v = .int n ∧ h'.1 z = some (lcell lf)) (hx : ∀ c h', Ψ c h' → c = 18) : Ev G d m_X0_trial [.ref x, .int a0, .int a1, .ref z] h (HO z Φ Ψ (fun _ => 1)) := by
  refine wc_in mt_X0_trial rfl (L := [.ref x, .int a0, .int a1, .ref z, am_un]) rfl ?_
  refine r_aload_3 rfl ?_
  refine r_push rfl ?_
  refine r_aload_0 rfl ?_
  refine r_iload_1 rfl ?_
  refine r_iload_2 rfl ?_
  refine r_k rfl (am_invv_ok rfl ho rfl rfl) hd hc (fun R q => ?_)
  rcases q with ⟨v, h1, rfl, q⟩ | ⟨c, h1, rfl, q⟩
  · obtain ⟨n, lf, rfl, o⟩ := hz _ _ q
    show Wp G d mt_X0_trial 8 _ _ h1 _
    refine r_i2l rfl ?_
    refine r_last rfl o (show (0 : Int32) = nI 0 from rfl) (by decide) (by decide) ?_
    refine r_goto rfl ?_
    refine r_push rfl ?_
    refine r_iret rfl ?_
    exact ⟨_, _, rfl, Or.inl ⟨n, h1, lf, q, o, rfl, rfl⟩⟩
  · obtain rfl := hx _ _ q
    show Wp G d mt_X0_trial 15 [.ref x, .int a0, .int a1, .ref z, am_un] [] h1 _
    refine r_push rfl ?_
    refine r_iret rfl ?_
    exact ⟨_, _, rfl, Or.inr ⟨_, q, rfl⟩⟩
theorem h_valley (hc : Et G e m_X1_valley [.ref x] h Φ Ψ) (hd : e < d) (ho : h.1 x = some (.inr (0, fs))) (hz : ∀ v h', Φ v h' → ∃ n lf, v = .int n ∧ h'.1 z = some (lcell lf)) (hx : ∀ c h', Ψ c h' → c = 18 ∨ c = 19) : Ev G d m_X0_valley [.ref x, .ref z] h (HO z Φ Ψ (fun c => if c = 18 then 1 else 2)) := by
  refine wc_in mt_X0_valley rfl (L := [.ref x, .ref z, am_un]) rfl ?_
  refine r_aload_1 rfl ?_
  refine r_push rfl ?_
  refine r_aload_0 rfl ?_
  refine r_k rfl (am_invv_ok rfl ho rfl rfl) hd hc (fun R q => ?_)
  rcases q with ⟨v, h1, rfl, q⟩ | ⟨c, h1, rfl, q⟩
  · obtain ⟨n, lf, rfl, o⟩ := hz _ _ q
    show Wp G d mt_X0_valley 6 _ _ h1 _
    refine r_i2l rfl ?_
    refine r_last rfl o (show (0 : Int32) = nI 0 from rfl) (by decide) (by decide) ?_
    refine r_goto rfl ?_
    refine r_push rfl ?_
    refine r_iret rfl ?_
    exact ⟨_, _, rfl, Or.inl ⟨n, h1, lf, q, o, rfl, rfl⟩⟩
  · rcases hx _ _ q with rfl | rfl
    · show Wp G d mt_X0_valley 12 [.ref x, .ref z, am_un] [] h1 _
      refine r_push rfl ?_
      refine r_iret rfl ?_
      exact ⟨_, _, rfl, Or.inr ⟨_, q, rfl⟩⟩
    · show Wp G d mt_X0_valley 15 [.ref x, .ref z, am_un] [] h1 _
      refine r_push rfl ?_
      refine r_iret rfl ?_
      exact ⟨_, _, rfl, Or.inr ⟨_, q, rfl⟩⟩
theorem h_way {a0 a1 : Int32} (hc : Et G e m_X1_way [.ref x, .int a0, .int a1] h Φ Ψ) (hd : e < d) (ho : h.1 x = some (.inr (0, fs))) (hz : ∀ v h', Φ v h' → ∃ n lf, v = .int n ∧ h'.1 z = some (lcell lf)) (hx : ∀ c h', Ψ c h' → c = 20) : Ev G d m_X0_way [.ref x, .int a0, .int a1, .ref z] h (HO z Φ Ψ (fun _ => 1)) := by
  refine wc_in mt_X0_way rfl (L := [.ref x, .int a0, .int a1, .ref z, am_un]) rfl ?_
  refine r_aload_3 rfl ?_
  refine r_push rfl ?_
  refine r_aload_0 rfl ?_
  refine r_iload_1 rfl ?_
  refine r_iload_2 rfl ?_
  refine r_k rfl (am_invv_ok rfl ho rfl rfl) hd hc (fun R q => ?_)
  rcases q with ⟨v, h1, rfl, q⟩ | ⟨c, h1, rfl, q⟩
  · obtain ⟨n, lf, rfl, o⟩ := hz _ _ q
    show Wp G d mt_X0_way 8 _ _ h1 _
    refine r_i2l rfl ?_
    refine r_last rfl o (show (0 : Int32) = nI 0 from rfl) (by decide) (by decide) ?_
    refine r_goto rfl ?_
    refine r_push rfl ?_
    refine r_iret rfl ?_
    exact ⟨_, _, rfl, Or.inl ⟨n, h1, lf, q, o, rfl, rfl⟩⟩
  · obtain rfl := hx _ _ q
    show Wp G d mt_X0_way 15 [.ref x, .int a0, .int a1, .ref z, am_un] [] h1 _
    refine r_push rfl ?_
    refine r_iret rfl ?_
    exact ⟨_, _, rfl, Or.inr ⟨_, q, rfl⟩⟩
theorem h_weigh (hc : Et G e m_X1_weigh [.ref x] h Φ Ψ) (hd : e < d) (ho : h.1 x = some (.inr (0, fs))) (hz : ∀ v h', Φ v h' → ∃ n lf, v = .int n ∧ h'.1 z = some (lcell lf)) (hx : ∀ c h', Ψ c h' → c = 18) : Ev G d m_X0_weigh [.ref x, .ref z] h (HO z Φ Ψ (fun _ => 1)) := by
  refine wc_in mt_X0_weigh rfl (L := [.ref x, .ref z, am_un]) rfl ?_
  refine r_aload_1 rfl ?_
  refine r_push rfl ?_
  refine r_aload_0 rfl ?_
  refine r_k rfl (am_invv_ok rfl ho rfl rfl) hd hc (fun R q => ?_)
  rcases q with ⟨v, h1, rfl, q⟩ | ⟨c, h1, rfl, q⟩
  · obtain ⟨n, lf, rfl, o⟩ := hz _ _ q
    show Wp G d mt_X0_weigh 6 _ _ h1 _
    refine r_i2l rfl ?_
    refine r_last rfl o (show (0 : Int32) = nI 0 from rfl) (by decide) (by decide) ?_
    refine r_goto rfl ?_
    refine r_push rfl ?_
    refine r_iret rfl ?_
    exact ⟨_, _, rfl, Or.inl ⟨n, h1, lf, q, o, rfl, rfl⟩⟩
  · obtain rfl := hx _ _ q
    show Wp G d mt_X0_weigh 12 [.ref x, .ref z, am_un] [] h1 _
    refine r_push rfl ?_
    refine r_iret rfl ?_
    exact ⟨_, _, rfl, Or.inr ⟨_, q, rfl⟩⟩
end
