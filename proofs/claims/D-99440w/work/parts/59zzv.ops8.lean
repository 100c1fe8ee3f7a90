/-! CALLS ON BOTH SIDES: share -/
set_option maxRecDepth 100000
section
variable {G : am_G} {bs x dx dy kX kY : Nat} {h : am_H} {a a' : AA} {AsX AsY : List Value}
theorem o_share (st : STA G bs x h a) (p k : Int32) : OP2 G bs x h a 5 m_X0_share [.ref x, .int p, .int k, .ref (x + 97)] 4 m_X6_share [.ref (x + 87), .int p, .int k] := by
  have st0 := st
  obtain ⟨S, g, lf, gx, ⟨b, l, K, W, X⟩, sy, o97⟩ := st
  have K0 := K
  obtain ⟨q1, v, yb, q4, q5, q6, o, q8⟩ := K0
  have hq : (qShare a.m p k).1 = 0 ∨ (qShare a.m p k).1 = 1 := by unfold qShare; (repeat' split) <;> simp
  refine op2 (a' := a) (r := qShare a.m p k) st0 (h_share (c_xShare q5 o q1 v yb X.2.2.2.2.2.2.2 p k) (by decide) o (fun v1 h1 p => ?_) (fun c h1 p => ?_)) (fun n1 h1 p => ?_) (fun c h1 p => ?_) (by omega) ?_
  · obtain ⟨-, rfl, -, F⟩ := p
    exact ⟨_, _, rfl, F.k o97 (by unfold SQ; omega)⟩
  · obtain ⟨h1, rfl, -⟩ := p
    rcases hq with e | e
    · exact absurd e h1
    · rw [e]; decide
  · obtain ⟨e1, e2, sh, F⟩ := p
    cases e2
    obtain ⟨gb, sg, hn, hl, rk⟩ := gx
    have z := F.z
    have hS : ∀ k, SQ x k → ¬ S k := fun k z sk => by have := (sg k sk).1; unfold SQ at z; omega
    obtain ⟨x1, x2, x3, x4, x5, x6, ⟨f7, x7⟩, x8⟩ := X
    refine ⟨e1, rfl, S, 0, 0, ⟨gb, fun k sk => by have := sg k sk; omega, by omega, hl, rk⟩, ⟨b, l, K.kp F (fun k z => ?_), W.kp F (fun k z => by unfold SQ at z; omega), x1.keep F (fun k z => ⟨by unfold SQ at z; omega, hS k z⟩), x2.keep F (fun k z => by unfold SQ at z; omega), x3.keep F (fun k z => by unfold SQ at z; omega), x4.keep F (fun k z => by unfold SQ at z; omega), x5.keep F (fun k z => by unfold SQ at z; omega), x6.keep F (fun k z => by unfold SQ at z; omega), ⟨f7, F.k x7 (by unfold SQ; omega)⟩, sh⟩, F.mono (fun k z => by unfold SQ at z; unfold XF; omega) (Nat.le_refl _) (Nat.le_refl _), by omega, by omega⟩
    exact ⟨by unfold SQ at z; omega, by unfold SQ at z; unfold InW; omega, by unfold SQ at z; omega, by unfold SQ at z; omega, hS k z⟩
  · obtain ⟨h1, rfl, rfl⟩ := p
    refine ⟨h1, ?_, xs_skip gx ⟨b, l, K, W, X⟩ (Nat.le_refl _)⟩
    rcases hq with e | e <;> rw [e] <;> first | exact absurd e h1 | rfl
  · intro h2 S g gx sx sy
    have hw := sx.sys.1
    obtain ⟨⟨q1, q2⟩, ⟨kp, q3, q3', q3''⟩, ⟨ad, q4⟩, ⟨ac, q5, q5'⟩, q6, ⟨fa, q7⟩, ⟨f8, q8⟩, ⟨f9, q9⟩, ⟨f10, q10⟩, e3, e6, e8, e12, ez⟩ := sy
    refine ev_mono (c_yShare ⟨q1, q2⟩ v ⟨f8, q8⟩ ⟨f9, q9⟩ ⟨f10, q10⟩ p k) ?_
    rintro u h3 ⟨rfl, f, t, w, rfl⟩
    have kk : ∀ {i : Nat} {c : am_C}, h2.1 (x + 87 + i) = some c → 1 ≤ i → i < 7 → (H3 (mh h2 (x + 87) (upd g 0 (nI (qShare a.m p k).1))) (x + 87) f t w).1 (x + 87 + i) = some c := fun {i c} z h1 h7 => H3_k (am_set_k z (by omega)) (by omega) (by omega) (by omega)
    refine ⟨⟨_, rfl, fun _ => rfl⟩, ⟨upd g 0 (nI (qShare a.m p k).1), ⟨⟨H3_k am_set_at (by omega) (by omega) (by omega), kk q2 (by decide) (by decide)⟩, ⟨kp, kk q3 (by decide) (by decide), q3', q3''⟩, ⟨ad, kk q4 (by decide) (by decide)⟩, ⟨ac, kk q5 (by decide) (by decide), q5'⟩, kk q6 (by decide) (by decide), ⟨fa, kk q7 (by decide) (by decide)⟩, ⟨f, H3_7⟩, ⟨t, am_set_k H2_8 (by omega)⟩, ⟨w, H3_9⟩, e3, e6, e8, e12, ez⟩, upd_eq⟩, ?_⟩
    have F1 : HF (YF x) 0 0 h2 (mh h2 (x + 87) (upd g 0 (nI (qShare a.m p k).1))) := (HF.set hw q1).mono (fun k z => by unfold YF; omega) (Nat.le_refl _) (Nat.le_refl _)
    exact HF.setP (HF.setP (HF.setP F1 (am_set_k q8 (by omega)) (by unfold YF; omega)) (am_set_k (am_set_k q9 (by omega)) (by omega)) (by unfold YF; omega)) (H2_k (am_set_k q10 (by omega)) (by omega) (by omega)) (by unfold YF; omega)
end
