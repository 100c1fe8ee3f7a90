/-! THE TAPE of the system: feed -/
set_option maxRecDepth 100000
def fv5 (a b c d e : Int32) : Nat → Int32 := upd (upd (upd (upd (upd (fun _ => 0) 0 a) 1 b) 2 c) 3 d) 4 e
theorem fd_sh : ∀ j, j < 20 → (24 : Int32) - 8 * rmF (nI j) 4 = nI (24 - 8 * (j % 4)) := by decide +kernel
theorem fd_v {a b c d e : Int32} {j : Nat} (hj : j < 20) : fdV a b c d e j = fv5 a b c d e (j / 4) := by
  unfold fdV
  rcases (show j / 4 = 0 ∨ j / 4 = 1 ∨ j / 4 = 2 ∨ j / 4 = 3 ∨ j / 4 = 4 by omega) with z | z | z | z | z <;> rw [z]
  · rw [if_pos (by omega)]; rfl
  · rw [if_neg (by omega), if_pos (by omega)]; rfl
  · rw [if_neg (by omega), if_neg (by omega), if_pos (by omega)]; rfl
  · rw [if_neg (by omega), if_neg (by omega), if_neg (by omega), if_pos (by omega)]; rfl
  · rw [if_neg (by omega), if_neg (by omega), if_neg (by omega), if_neg (by omega)]; rfl
theorem sby_fd {a b c d e : Int32} {j : Nat} (hj : j < 20) : sby (fv5 a b c d e) j = sbI (fdB a b c d e j) := by
  unfold sby fdB
  rw [fd_sh j hj, fd_v hj]
  exact byte_eq _ (by omega)
theorem feN_at {T f : Nat → Int32} {len : Nat} : ∀ (n k : Nat), feN T len f n k = if len ≤ k ∧ k < len + n then f (k - len) else T k
  | 0, k => by rw [if_neg (by omega)]; rfl
  | n + 1, k => by
    rw [feN]
    by_cases c : k = len + n
    · subst c
      rw [upd_eq, if_pos (by omega)]
      congr 1
      omega
    · rw [upd_ne c, feN_at n k]
      by_cases z : len ≤ k ∧ k < len + n
      · rw [if_pos z, if_pos (by omega)]
      · rw [if_neg z, if_neg (by omega)]
section
variable {G : am_G} {h : am_H} {x : Nat} {hi : Bool} {f : Nat → Int32} {len n : Nat} {at_ bg ft dp : Int32}
theorem c_xFeed (hw : HW h) (o : h.1 x = some (.inr (0, xobj x hi))) (q : RS h (x + 46) f len n at_ bg ft dp) (hl : len ≤ 400) (a b c d e : Int32) : Ev G 1 m_X1_feed [.ref x, .int a, .int b, .int c, .int d, .int e] h (fun v h' => (400 < len + 20 ∧ v = .int (-1) ∧ HF (fun _ => False) 1 5 h h') ∨ (len + 20 ≤ 400 ∧ v = .int (nI (len + 20)) ∧ RS h' (x + 46) (feN f len (sby (fv5 a b c d e)) 20) (len + 20) n at_ bg ft dp ∧ HF (isRT (x + 46)) 1 5 h h')) := by
  have w1 := hw _ _ q.1
  have w2 := hw _ _ q.2
  have w0 := hw _ _ o
  refine wc_in mt_X1_feed rfl (L := [.ref x, .int a, .int b, .int c, .int d, .int e]) rfl ?_
  refine r_aload_0 rfl ?_
  refine r_getf rfl o rfl ?_
  refine r_push rfl ?_
  refine r_newi rfl (n := 5) rfl (by decide) ?_
  refine r_dupR rfl ?_
  refine r_push rfl ?_
  refine r_iload_1 rfl ?_
  refine r_iast rfl am_new_at (show (0 : Int32) = nI 0 from rfl) (by decide) (by decide) ?_
  refine r_dupR rfl ?_
  refine r_push rfl ?_
  refine r_iload_2 rfl ?_
  refine r_iast rfl am_set_at (show (1 : Int32) = nI 1 from rfl) (by decide) (by decide) ?_
  rw [am_set_set]
  refine r_dupR rfl ?_
  refine r_push rfl ?_
  refine r_iload_3 rfl ?_
  refine r_iast rfl am_set_at (show (2 : Int32) = nI 2 from rfl) (by decide) (by decide) ?_
  rw [am_set_set]
  refine r_dupR rfl ?_
  refine r_push rfl ?_
  refine r_iload_4 rfl ?_
  refine r_iast rfl am_set_at (show (3 : Int32) = nI 3 from rfl) (by decide) (by decide) ?_
  rw [am_set_set]
  refine r_dupR rfl ?_
  refine r_push rfl ?_
  refine r_iload_5 rfl ?_
  refine r_iast rfl am_set_at (show (4 : Int32) = nI 4 from rfl) (by decide) (by decide) ?_
  rw [am_set_set]
  have F : HF (fun _ => False) 1 5 h (am_set (am_new h (.inl (0, 5, .inl (fun _ => 0))) 5) h.2.1 (.inl (0, 5, .inl (fv5 a b c d e)))) := HF.setN ((HF.new hw).mono (fun _ z => z) (Nat.le_refl _) (Nat.le_refl _)) am_new_at hw (Nat.le_refl _)
  have q1 : RS (am_set (am_new h (.inl (0, 5, .inl (fun _ => 0))) 5) h.2.1 (.inl (0, 5, .inl (fv5 a b c d e)))) (x + 46) f len n at_ bg ft dp := ⟨F.k q.1 (fun z => z), F.k q.2 (fun z => z)⟩
  have q5 : (am_set (am_new h (.inl (0, 5, .inl (fun _ => 0))) 5) h.2.1 (.inl (0, 5, .inl (fv5 a b c d e)))).1 h.2.1 = some (.inl (0, 5, .inl (fv5 a b c d e))) := am_set_at
  change Wp G 1 mt_X1_feed 29 _ _ (am_set (am_new h (.inl (0, 5, .inl (fun _ => 0))) 5) h.2.1 (.inl (0, 5, .inl (fv5 a b c d e)))) _
  generalize am_set (am_new h (.inl (0, 5, .inl (fun _ => 0))) 5) h.2.1 (.inl (0, 5, .inl (fv5 a b c d e))) = h1 at *
  refine r_invvE rfl rfl q1.1 rfl rfl (by decide) (c_xAdd F.w q1 hl q5 ⟨by omega, by omega⟩) ?_
  rintro v h2 (⟨z1, rfl, rfl⟩ | ⟨z1, rfl, q2, f2⟩)
  · refine r_iret rfl ?_
    exact ⟨_, _, rfl, Or.inl ⟨z1, rfl, F⟩⟩
  · refine r_iret rfl ?_
    exact ⟨_, _, rfl, Or.inr ⟨z1, rfl, q2, HF.trans (F.mono (fun _ z => z.elim) (Nat.le_refl _) (Nat.le_refl _)) f2⟩⟩
end
