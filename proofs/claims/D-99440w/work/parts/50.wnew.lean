/-! NEW OBJECTS: worlds, the reader, shares, the model -/
set_option maxRecDepth 100000
/-- an object at w, new since hb, and so many new arrays behind it -/
def NI (P : Nat → Prop) (hb h : am_H) (w cls n s : Nat) (fs : List Value) (cs : Nat → am_C) : Prop := h.2.1 = w + n + 1 ∧ h.1 w = some (.inr (cls, fs)) ∧ (∀ i, i < n → h.1 (w + 1 + i) = some (cs i)) ∧ HF P (n + 1) s hb h ∧ hb.2.1 = w ∧ HW hb
section
variable {P : Nat → Prop} {hb h : am_H} {w cls n s : Nat} {fs : List Value} {cs : Nat → am_C}
theorem ni_new (q : HW h) {k : Nat} : NI P h (am_new h (.inr (cls, fs)) k) h.2.1 cls 0 k fs cs := ⟨rfl, am_new_at, fun i hi => absurd hi (Nat.not_lt_zero _), (((HF.refl q).newN (e := .inr (cls, fs)) (n := k)).mono (fun _ z => z) (by omega) (by omega)), rfl, q⟩
theorem ni_step (q : NI P hb h w cls n s fs cs) {e : am_C} {k : Nat} {fs' : List Value} : NI P hb (am_set (am_new h e k) w (.inr (cls, fs'))) w cls (n + 1) (s + k) fs' (fun i => if i = n then e else cs i) := by
  obtain ⟨q1, q2, q3, q4, q5, q6⟩ := q
  have hw : w ≠ h.2.1 := by omega
  have nw : (am_new h e k).1 w = some (.inr (cls, fs)) := (am_new_ne hw).trans q2
  refine ⟨?_, am_set_at, fun i hi => ?_, HF.setN (q4.newN.mono (fun _ z => z) (by omega) (by omega)) nw q6 (by omega), q5, q6⟩
  · show h.2.1 + 1 = _
    omega
  · show _ = some (if i = n then e else cs i)
    by_cases c : i = n
    · subst c
      rw [if_pos rfl, am_set_ne (by omega), show w + 1 + i = h.2.1 by omega]
      exact am_new_at
    · rw [if_neg c, am_set_ne (by omega), am_new_ne (by omega)]
      exact q3 i (by omega)
theorem ni_put (q : NI P hb h w cls n s fs cs) {fs' : List Value} : NI P hb (am_set h w (.inr (cls, fs'))) w cls n s fs' cs := by
  obtain ⟨q1, q2, q3, q4, q5, q6⟩ := q
  exact ⟨q1, am_set_at, fun i hi => (am_set_ne (by omega)).trans (q3 i hi), HF.setN q4 q2 q6 (by omega), q5, q6⟩
theorem ni_o (q : NI P hb h w cls n s fs cs) : h.1 w = some (.inr (cls, fs)) := q.2.1
theorem ni_on (q : NI P hb h w cls n s fs cs) {e : am_C} {k : Nat} : (am_new h e k).1 w = some (.inr (cls, fs)) := (am_new_ne (by have := q.1; omega)).trans q.2.1
end
/-- the row at first -/
def m0F : Nat → Int32 := fun k => if k = 1 then -1 else if k = 6 then 40 else if k = 8 then 1 else 0
theorem cl0 {n : Nat} {f : Nat → Int32} (h : ∀ j, j < n → f j = 0) : (fun _ => 0) = cl n f := by
  funext j
  unfold cl
  by_cases c : j < n
  · rw [if_pos c, h j c]
  · rw [if_neg c]
theorem m0F_z {k : Nat} (h : k ≠ 1 ∧ k ≠ 6 ∧ k ≠ 8) : m0F k = 0 := by unfold m0F; rw [if_neg h.1, if_neg h.2.1, if_neg h.2.2]
section
variable {G : am_G} {P : Nat → Prop} {hb h : am_H} {w : Nat} {cs : Nat → am_C}
theorem r_ni {d : Nat} {M : am_M} {pc nx j cls n s k : Nat} {L st : List Value} {fs : List Value} {e : am_C} {Q : am_O → Prop} (hf : M.1 pc = some (a_puta cls j nx)) (hl : Nat.blt j fs.length = true) (q : NI P hb h w cls n s fs cs) (kk : ∀ h', NI P hb h' w cls (n + 1) (s + k) (am_st fs j (.ref (w + n + 1))) (fun i => if i = n then e else cs i) → Wp G d M nx L st h' Q) : Wp G d M pc L (.ref h.2.1 :: .ref w :: st) (am_new h e k) Q := by
  refine r_puta hf (ni_on q) hl ?_
  rw [q.1]
  exact kk _ (ni_step q)
theorem r_niP {d : Nat} {M : am_M} {pc nx j cls n s : Nat} {L st : List Value} {fs : List Value} {v : Int32} {Q : am_O → Prop} (hf : M.1 pc = some (a_puti cls j nx)) (hl : Nat.blt j fs.length = true) (q : NI P hb h w cls n s fs cs) (kk : ∀ h', NI P hb h' w cls n s (am_st fs j (.int v)) cs → Wp G d M nx L st h' Q) : Wp G d M pc L (.int v :: .ref w :: st) h Q :=
  r_puti hf q.2.1 hl (kk _ (ni_put q))
theorem c_wInit (q : NI P hb h w 1 0 22 [.int 0, .int 0, .int 0, .int 0, .int 0, .int 0, .int 0, .null, .null, .null, .null, .null, .null, .null, .null, .null, .null, .null, .null, .null, .null, .null] cs) : En G 0 m_X2_init [.ref w] h (fun h' => WA h' w m0F (fun _ => 0) .null ∧ HF P 15 372 hb h' ∧ h'.2.1 = w + 15) := by
  refine wc_in mt_X2_init rfl (L := [.ref w]) rfl ?_
  refine r_aload_0 rfl ?_
  refine r_oinit rfl rfl ?_
  refine r_aload_0 rfl ?_
  refine r_push rfl ?_
  refine r_niP rfl rfl q (fun hA qA => ?_)
  refine r_aload_0 rfl ?_
  refine r_push rfl ?_
  refine r_niP rfl rfl qA (fun hB qB => ?_)
  refine r_aload_0 rfl ?_
  refine r_push rfl ?_
  refine r_newi rfl (n := 6) rfl (by decide) ?_
  refine r_ni rfl rfl qB (fun h0qB q0qB => ?_)
  refine r_aload_0 rfl ?_
  refine r_push rfl ?_
  refine r_newi rfl (n := 6) rfl (by decide) ?_
  refine r_ni rfl rfl q0qB (fun h1qB q1qB => ?_)
  refine r_aload_0 rfl ?_
  refine r_push rfl ?_
  refine r_newi rfl (n := 6) rfl (by decide) ?_
  refine r_ni rfl rfl q1qB (fun h2qB q2qB => ?_)
  refine r_aload_0 rfl ?_
  refine r_push rfl ?_
  refine r_newi rfl (n := 6) rfl (by decide) ?_
  refine r_ni rfl rfl q2qB (fun h3qB q3qB => ?_)
  refine r_aload_0 rfl ?_
  refine r_push rfl ?_
  refine r_newi rfl (n := 6) rfl (by decide) ?_
  refine r_ni rfl rfl q3qB (fun h4qB q4qB => ?_)
  refine r_aload_0 rfl ?_
  refine r_push rfl ?_
  refine r_newi rfl (n := 6) rfl (by decide) ?_
  refine r_ni rfl rfl q4qB (fun h5qB q5qB => ?_)
  refine r_aload_0 rfl ?_
  refine r_push rfl ?_
  refine r_newi rfl (n := 12) rfl (by decide) ?_
  refine r_ni rfl rfl q5qB (fun h6qB q6qB => ?_)
  refine r_aload_0 rfl ?_
  refine r_push rfl ?_
  refine r_newi rfl (n := 12) rfl (by decide) ?_
  refine r_ni rfl rfl q6qB (fun h7qB q7qB => ?_)
  refine r_aload_0 rfl ?_
  refine r_push rfl ?_
  refine r_newi rfl (n := 10) rfl (by decide) ?_
  refine r_ni rfl rfl q7qB (fun h8qB q8qB => ?_)
  refine r_aload_0 rfl ?_
  refine r_push rfl ?_
  refine r_newi rfl (n := 10) rfl (by decide) ?_
  refine r_ni rfl rfl q8qB (fun h9qB q9qB => ?_)
  refine r_aload_0 rfl ?_
  refine r_push rfl ?_
  refine r_newi rfl (n := 10) rfl (by decide) ?_
  refine r_ni rfl rfl q9qB (fun h10qB q10qB => ?_)
  refine r_aload_0 rfl ?_
  refine r_push rfl ?_
  refine r_newi rfl (n := 10) rfl (by decide) ?_
  refine r_ni rfl rfl q10qB (fun h11qB q11qB => ?_)
  refine r_aload_0 rfl ?_
  refine r_push rfl ?_
  refine r_newi rfl (n := 10) rfl (by decide) ?_
  refine r_ni rfl rfl q11qB (fun h12qB q12qB => ?_)
  refine r_aload_0 rfl ?_
  refine r_push rfl ?_
  refine r_newi rfl (n := 240) rfl (by decide) ?_
  refine r_ni rfl rfl q12qB (fun h13qB q13qB => ?_)
  refine r_vret rfl ?_
  obtain ⟨z1, z2, z3, z4, -, -⟩ := q13qB
  refine ⟨_, rfl, fun i hi => ?_, z4, z1⟩
  rcases (show i = 0 ∨ i = 1 ∨ i = 2 ∨ i = 3 ∨ i = 4 ∨ i = 5 ∨ i = 6 ∨ i = 7 ∨ i = 8 ∨ i = 9 ∨ i = 10 ∨ i = 11 ∨ i = 12 ∨ i = 13 ∨ i = 14 by omega) with rfl | rfl | rfl | rfl | rfl | rfl | rfl | rfl | rfl | rfl | rfl | rfl | rfl | rfl | rfl
  · exact z2
  · have z := z3 0 (by decide)
    rw [Nat.add_assoc] at z
    refine z.trans ?_
    show some (Sum.inl (0, 6, Sum.inl _)) = some (Sum.inl (0, 6, Sum.inl (cl 6 (fun p => m0F (33 + 6 * p)))))
    rw [← cl0 (fun j hj => m0F_z (by omega))]
  · have z := z3 1 (by decide)
    rw [Nat.add_assoc] at z
    refine z.trans ?_
    show some (Sum.inl (0, 6, Sum.inl _)) = some (Sum.inl (0, 6, Sum.inl (cl 6 (fun p => m0F (34 + 6 * p)))))
    rw [← cl0 (fun j hj => m0F_z (by omega))]
  · have z := z3 2 (by decide)
    rw [Nat.add_assoc] at z
    refine z.trans ?_
    show some (Sum.inl (0, 6, Sum.inl _)) = some (Sum.inl (0, 6, Sum.inl (cl 6 (fun p => m0F (35 + 6 * p)))))
    rw [← cl0 (fun j hj => m0F_z (by omega))]
  · have z := z3 3 (by decide)
    rw [Nat.add_assoc] at z
    refine z.trans ?_
    show some (Sum.inl (0, 6, Sum.inl _)) = some (Sum.inl (0, 6, Sum.inl (cl 6 (fun p => m0F (36 + 6 * p)))))
    rw [← cl0 (fun j hj => m0F_z (by omega))]
  · have z := z3 4 (by decide)
    rw [Nat.add_assoc] at z
    refine z.trans ?_
    show some (Sum.inl (0, 6, Sum.inl _)) = some (Sum.inl (0, 6, Sum.inl (cl 6 (fun p => m0F (37 + 6 * p)))))
    rw [← cl0 (fun j hj => m0F_z (by omega))]
  · have z := z3 5 (by decide)
    rw [Nat.add_assoc] at z
    refine z.trans ?_
    show some (Sum.inl (1, 6, Sum.inl _)) = some (Sum.inl (1, 6, Sum.inl (cl 6 (fun p => m0F (38 + 6 * p)))))
    rw [← cl0 (fun j hj => m0F_z (by omega))]
  · have z := z3 6 (by decide)
    rw [Nat.add_assoc] at z
    refine z.trans ?_
    show some (Sum.inl (1, 12, Sum.inl _)) = some (Sum.inl (1, 12, Sum.inl (cl 12 (fun q => m0F (21 + q)))))
    rw [← cl0 (fun j hj => m0F_z (by omega))]
  · have z := z3 7 (by decide)
    rw [Nat.add_assoc] at z
    refine z.trans ?_
    show some (Sum.inl (0, 12, Sum.inl _)) = some (Sum.inl (0, 12, Sum.inl (cl 12 (fun q => m0F (9 + q)))))
    rw [← cl0 (fun j hj => m0F_z (by omega))]
  · have z := z3 8 (by decide)
    rw [Nat.add_assoc] at z
    refine z.trans ?_
    show some (Sum.inl (0, 10, Sum.inl _)) = some (Sum.inl (0, 10, Sum.inl (cl 10 (fun s => m0F (69 + 6 * s)))))
    rw [← cl0 (fun j hj => m0F_z (by omega))]
  · have z := z3 9 (by decide)
    rw [Nat.add_assoc] at z
    refine z.trans ?_
    show some (Sum.inl (0, 10, Sum.inl _)) = some (Sum.inl (0, 10, Sum.inl (cl 10 (fun s => m0F (70 + 6 * s)))))
    rw [← cl0 (fun j hj => m0F_z (by omega))]
  · have z := z3 10 (by decide)
    rw [Nat.add_assoc] at z
    refine z.trans ?_
    show some (Sum.inl (0, 10, Sum.inl _)) = some (Sum.inl (0, 10, Sum.inl (cl 10 (fun s => m0F (71 + 6 * s)))))
    rw [← cl0 (fun j hj => m0F_z (by omega))]
  · have z := z3 11 (by decide)
    rw [Nat.add_assoc] at z
    refine z.trans ?_
    show some (Sum.inl (0, 10, Sum.inl _)) = some (Sum.inl (0, 10, Sum.inl (cl 10 (fun s => m0F (72 + 6 * s)))))
    rw [← cl0 (fun j hj => m0F_z (by omega))]
  · have z := z3 12 (by decide)
    rw [Nat.add_assoc] at z
    refine z.trans ?_
    show some (Sum.inl (0, 10, Sum.inl _)) = some (Sum.inl (0, 10, Sum.inl (cl 10 (fun _ => 0))))
    rw [← cl0 (fun j hj => rfl)]
  · have z := z3 13 (by decide)
    rw [Nat.add_assoc] at z
    refine z.trans ?_
    show some (Sum.inl (0, 240, Sum.inl _)) = some (Sum.inl (0, 240, Sum.inl (cl 240 (fun k => m0F (129 + k)))))
    rw [← cl0 (fun j hj => m0F_z (by omega))]
end
