/-! THE SYSTEM: worlds ahead -/
set_option maxRecDepth 100000
section
variable {G : am_G} {bs x w w1 : Nat} {S : Nat → Prop} {hi : Bool} {h h0 : am_H} {m b mt bt : Nat → Int32} {l lt : Value}
theorem LO.v (q : LO G bs h S m l) : l = .null ∨ ∃ a, l = .ref a := by
  rcases q with ⟨-, q⟩ | ⟨-, a, q, -⟩
  · exact Or.inl q
  · exact Or.inr ⟨a, q⟩
/-- a world that another one is likened to -/
theorem c_like (q : HS G bs x w1 S hi h m b l) (g1 : GEO bs x w1 S) (g : GEO bs x w S) (qt : WA h w mt bt lt) (hd : w + 15 ≤ w1 ∨ w1 + 15 ≤ w) : Ev G 1 m_X2_likens [.ref w, .ref w1] h (fun v h' => v = .ref w ∧ HL G bs x w S hi h b l m h') := by
  obtain ⟨q1, q2, q3, q4, q5, q6, q7, s, q8⟩ := q
  obtain ⟨z1, z2, z3, z4⟩ := g
  refine ev_mono (c_likens qt q1 q5 hd q4.v) ?_
  rintro v h' ⟨rfl, wa, f⟩
  have no : ∀ {a}, ¬ InW w a → ¬ InW w a := fun z => z
  have kS : SK S h h' := fun a e sa ea => f.k ea (fun z => z4 a sa (Or.inl z))
  refine ⟨rfl, ⟨wa, q2, q3, q4.keep kS rfl rfl (fun _ _ => rfl), f.w, q6.keep f (fun a z => by unfold InW at z; omega), f.k q7 (by unfold InW; omega), s, f.k q8 (by unfold InW; omega)⟩, f.mono (fun a z => Or.inl z) (Nat.le_refl _) (Nat.le_refl _)⟩
/-- so many hours more -/
theorem c_more {n : Nat} {dr : Bool} {M : am_M} {d pc : Nat} {Q : am_O → Prop} (L : Nat → List Value) (q : HL G bs x w S hi h0 b l m h) (step : ∀ j h', j < n → HL G bs x w S hi h0 b l (hourN dr m j).2 h' → (∀ h'', HL G bs x w S hi h0 b l (hourN dr m (j + 1)).2 h'' → Wp G d M pc (L (j + 1)) [] h'' Q) → Wp G d M pc (L j) [] h' Q) (fin : ∀ h', HL G bs x w S hi h0 b l (hourN dr m n).2 h' → Wp G d M pc (L n) [] h' Q) : Wp G d M pc (L 0) [] h Q :=
  wp_forHK n L (fun j h' => HL G bs x w S hi h0 b l (hourN dr m j).2 h') step fin q
theorem c_tries (q : HL G bs x (x + 72) S hi h0 b l m h) (g : GEO bs x (x + 72) S) {n : Nat} (hn : n ≤ 200) : En G 45 m_X1_tries [.ref x, .int (nI n)] h (fun h' => HL G bs x (x + 72) S hi h0 b l (hourN true m n).2 h') := by
  refine wc_in mt_X1_tries rfl (L := [.ref x, .int (nI n), am_un]) rfl ?_
  refine r_push rfl ?_
  refine r_istore_2 rfl ?_
  refine c_more (n := n) (dr := true) (fun j => [.ref x, .int (nI n), .int (nI j)]) q (fun j h' hj hK kont => ?_) (fun h' hK => ?_)
  · have o := hK.1.2.2.2.2.2.2.1
    refine r_iload_2 rfl ?_
    refine r_iload_1 rfl ?_
    refine r_icgeF rfl (nI_lt hj (by omega)) ?_
    refine r_aload_0 rfl ?_
    refine r_aload_0 rfl ?_
    refine r_getf rfl (by assumption) (by rfl) ?_
    refine r_push rfl ?_
    refine r_invvE rfl rfl (by assumption) rfl rfl (by decide) (c_anHour (dr := true) hK g) ?_
    rintro v h2 ⟨rfl, q2⟩
    refine r_pop rfl ?_
    refine r_iinc_2 rfl ?_
    refine r_goto rfl ?_
    rw [nI_1]
    exact kont _ q2
  · refine r_iload_2 rfl ?_
    refine r_iload_1 rfl ?_
    refine r_icgeT rfl (Int32.le_refl _) ?_
    refine r_vret rfl ?_
    exact ⟨_, rfl, hK⟩
theorem c_worldAt (q : HS G bs x (x + 1) S hi h m b l) (g1 : GEO bs x (x + 1) S) (g : GEO bs x (x + 49) S) (qt : WA h (x + 49) mt bt lt) {n : Nat} (hn : n ≤ 200) : Ev G 45 m_X1_worldAt [.ref x, .int (nI n)] h (fun v h' => v = .ref (x + 49) ∧ HL G bs x (x + 49) S hi h b l (hourN false m n).2 h') := by
  have o := q.2.2.2.2.2.2.1
  have ot := wa_o qt
  refine wc_in mt_X1_worldAt rfl (L := [.ref x, .int (nI n), am_un]) rfl ?_
  refine r_aload_0 rfl ?_
  refine r_getf rfl o rfl ?_
  refine r_aload_0 rfl ?_
  refine r_getf rfl o rfl ?_
  refine r_invvE rfl rfl ot rfl rfl (by decide) (c_like q g1 g qt (by omega)) ?_
  rintro v h1 ⟨rfl, k1⟩
  refine r_popR rfl ?_
  refine r_push rfl ?_
  refine r_istore_2 rfl ?_
  refine c_more (n := n) (dr := false) (fun j => [.ref x, .int (nI n), .int (nI j)]) k1 (fun j h' hj hK kont => ?_) (fun h' hK => ?_)
  · have o := hK.1.2.2.2.2.2.2.1
    refine r_iload_2 rfl ?_
    refine r_iload_1 rfl ?_
    refine r_icgeF rfl (nI_lt hj (by omega)) ?_
    refine r_aload_0 rfl ?_
    refine r_aload_0 rfl ?_
    refine r_getf rfl (by assumption) (by rfl) ?_
    refine r_push rfl ?_
    refine r_invvE rfl rfl (by assumption) rfl rfl (by decide) (c_anHour (dr := false) hK g) ?_
    rintro v h2 ⟨rfl, q2⟩
    refine r_pop rfl ?_
    refine r_iinc_2 rfl ?_
    refine r_goto rfl ?_
    rw [nI_1]
    exact kont _ q2
  · have o := hK.1.2.2.2.2.2.2.1
    refine r_iload_2 rfl ?_
    refine r_iload_1 rfl ?_
    refine r_icgeT rfl (Int32.le_refl _) ?_
    refine r_aload_0 rfl ?_
    refine r_getf rfl (by assumption) (by rfl) ?_
    refine r_aret rfl ?_
    exact ⟨_, _, rfl, rfl, hK⟩
end
