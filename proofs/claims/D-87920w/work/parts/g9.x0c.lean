/-! the component's constructor, whole -/
-- needs: g8.x0b
set_option maxRecDepth 100000
set_option linter.unusedVariables false
def x0R (q : Nat) (i : Int) : Option Nat := if i = 37 then some (q + 724) else if i = 35 then some (q + 723) else if i = 34 then some (q + 719) else if i = 32 then some (q + 718) else if i = 31 then some (q + 717) else if i = 30 then some (q + 716) else if i = 29 then some (q + 715) else if i = 27 then some (q + 713) else if i = 26 then some (q + 711) else if i = 24 then some (q + 710) else if i = 23 then some (q + 709) else if i = 21 then some (q + 708) else if i = 19 then some (q + 707) else if i = 18 then some (q + 705) else if i = 17 then some (q + 700) else if i = 16 then some (q + 699) else if i = 15 then some (q + 698) else if i = 14 then some (q + 696) else if i = 13 then some (q + 694) else if i = 12 then some (q + 692) else if i = 11 then some (q + 683) else if i = 10 then some (q + 674) else if i = 9 then some (q + 665) else if i = 8 then some (q + 445) else if i = 7 then some (q + 225) else if i = 6 then some (q + 65) else if i = 5 then some (q + 33) else if i = 4 then some (q + 22) else if i = 3 then some (q + 3) else if i = 1 then some (q + 2) else if i = 0 then some (q + 1) else none
/-- what stands before the loops -/
def x0W (S : Stat) (D : Dat) (q : Nat) : Prop := S.1 q = some (0, 0) ∧ S.2.2 = q + 728 ∧ (∀ i, S.2.1 q i = x0R q i) ∧ (∀ i, D q i = if i = 33 then -7 else 0) ∧ (X0a 111 8) S D (q + 1) ∧ (X0a 100 8) S D (q + 2) ∧ (fun S D q => tS S q ∧ tD D q) S D (q + 3) ∧ X2r S D (q + 22) ∧ (X4d (q + 3) (q + 22)) S D (q + 33) ∧ (X7s (q + 3) (q + 22)) S D (q + 65) ∧ (X8c (q + 22)) S D (q + 225) ∧ (X8c (q + 22)) S D (q + 445) ∧ (X6q (q + 22)) S D (q + 665) ∧ (X6q (q + 22)) S D (q + 674) ∧ (X6q (q + 22)) S D (q + 683) ∧ (X3w 160) S D (q + 692) ∧ (X3w 160) S D (q + 694) ∧ (X3w 160) S D (q + 696) ∧ (X0a 108 16) S D (q + 698) ∧ (X9l 9 (q + 3)) S D (q + 699) ∧ (XO (q + 3) (q + 699)) S D (q + 700) ∧ X5p S D (q + 705) ∧ (X0a 107 6) S D (q + 707) ∧ (X0a 100 1820) S D (q + 708) ∧ (X0a 107 6) S D (q + 709) ∧ (X0a 107 6) S D (q + 710) ∧ X5p S D (q + 711) ∧ X5p S D (q + 713) ∧ (X0a 107 15) S D (q + 715) ∧ (X0a 100 9) S D (q + 716) ∧ (X0a 100 9) S D (q + 717) ∧ (X0a 110 8) S D (q + 718) ∧ X13r S D (q + 719) ∧ (X0a 101 20000) S D (q + 723) ∧ X13r S D (q + 724)
/-- what moves, or is a number -/
def x0D (S : Stat) (D : Dat) (q : Nat) : Prop := S.2.1 q 23 = some (q + 709) ∧ S.2.1 q 24 = some (q + 710) ∧ S.2.1 q 26 = some (q + 711) ∧ S.2.1 q 27 = some (q + 713) ∧ (∀ p : Nat, p < 16 → ∀ i, S.2.1 (q + 735 + p) i = none) ∧ (∀ i, S.2.1 (q + 715) i = none) ∧ cFx D q ∧ (D q 2 = 0 ∧ ∀ i, D (q + 2) i = 0) ∧ D q 20 = 0 ∧ D q 22 = 0 ∧ D q 25 = 0 ∧ D q 28 = 0 ∧ D q 33 = -7 ∧ D q 36 = 0 ∧ (sqC D (q + 65) (fun _ _ => 0) ∧ D (q + 65) 16 = -7) ∧ cSc D q
def x0G (q a : Nat) : Prop := a = q + 1 ∨ a = q + 698 ∨ x3F q a ∨ a = q + 718
theorem x0G_ge {q a : Nat} (h : x0G q a) : q + 1 ≤ a := by unfold x0G x3F at h; omega
theorem x0_fin {q : Nat} {S S1 S2 S3 S4 : Stat} {D D1 D2 D3 D4 : Dat} (h : x0W S D q) (c1 : bF (fun a => a = q + 1) S S1 D D1) (c2 : bF (fun a => a = q + 698) S1 S2 D1 D2) (c3 : bF (x3F q) S2 S3 D2 D3) (c4 : bF (fun a => a = q + 718) S3 S4 D3 D4) (n1 : S1.2.2 = q + 735) (n2 : S2.2.2 = q + 751) (n3 : S3.2.2 = q + 787)
    (e1 : ∀ j : Nat, 1 ≤ j → j < 8 → S1.2.1 (q + 1) j = some (q + 727 + j) ∧ X14f j S1 D1 (q + 727 + j)) (e2 : ∀ j : Nat, j < 16 → S2.2.1 (q + 698) j = some (q + 735 + j) ∧ X15s S2 D2 (q + 735 + j)) (e3 : x3E S3 D3 q 6) (e4 : ∀ j : Nat, j < 8 → S4.2.1 (q + 718) j = some (q + 787 + 4 * j) ∧ X13r S4 D4 (q + 787 + 4 * j)) : cfx S4 q ∧ x0D S4 D4 q := by
  have c : bF (x0G q) S S4 D D4 := (c1.mono fun a h => Or.inl h).tr ((c2.mono fun a h => Or.inr (Or.inl h)).tr ((c3.mono fun a h => Or.inr (Or.inr (Or.inl h))).tr (c4.mono fun a h => Or.inr (Or.inr (Or.inr h)))))
  have d2 : bF (x0G q) S1 S4 D1 D4 := (c2.mono fun a h => Or.inr (Or.inl h)).tr ((c3.mono fun a h => Or.inr (Or.inr (Or.inl h))).tr (c4.mono fun a h => Or.inr (Or.inr (Or.inr h))))
  have d3 : bF (x0G q) S2 S4 D2 D4 := (c3.mono fun a h => Or.inr (Or.inr (Or.inl h))).tr (c4.mono fun a h => Or.inr (Or.inr (Or.inr h)))
  have d4 : bF (fun a => a = q + 718) S3 S4 D3 D4 := c4
  obtain ⟨o, n, r, d, y1, y2, y3, y22, y33, y65, y225, y445, y665, y674, y683, y692, y694, y696, y698, y699, y700, y705, y707, y708, y709, y710, y711, y713, y715, y716, y717, y718, y719, y723, y724⟩ := h
  have o' : S4.1 q = some (0, 0) := by rw [c.2.1 q (by omega)]; exact o
  have r' : ∀ i, S4.2.1 q i = x0R q i := fun i => by rw [c.2.2.1 q i (by omega) (by unfold x0G x3F; omega)]; exact r i
  have z : ∀ i, D4 q i = if i = 33 then -7 else 0 := fun i => by rw [c.2.2.2 q i (by omega)]; exact d i
  have f0 : S4.2.1 q 0 = some (q + 1) := r' 0
  have f1 : S4.2.1 q 1 = some (q + 2) := r' 1
  have f3 : S4.2.1 q 3 = some (q + 3) := r' 3
  have f4 : S4.2.1 q 4 = some (q + 22) := r' 4
  have f5 : S4.2.1 q 5 = some (q + 33) := r' 5
  have f6 : S4.2.1 q 6 = some (q + 65) := r' 6
  have f7 : S4.2.1 q 7 = some (q + 225) := r' 7
  have f8 : S4.2.1 q 8 = some (q + 445) := r' 8
  have f9 : S4.2.1 q 9 = some (q + 665) := r' 9
  have f10 : S4.2.1 q 10 = some (q + 674) := r' 10
  have f11 : S4.2.1 q 11 = some (q + 683) := r' 11
  have f12 : S4.2.1 q 12 = some (q + 692) := r' 12
  have f13 : S4.2.1 q 13 = some (q + 694) := r' 13
  have f14 : S4.2.1 q 14 = some (q + 696) := r' 14
  have f15 : S4.2.1 q 15 = some (q + 698) := r' 15
  have f16 : S4.2.1 q 16 = some (q + 699) := r' 16
  have f17 : S4.2.1 q 17 = some (q + 700) := r' 17
  have f18 : S4.2.1 q 18 = some (q + 705) := r' 18
  have f19 : S4.2.1 q 19 = some (q + 707) := r' 19
  have f21 : S4.2.1 q 21 = some (q + 708) := r' 21
  have f23 : S4.2.1 q 23 = some (q + 709) := r' 23
  have f24 : S4.2.1 q 24 = some (q + 710) := r' 24
  have f26 : S4.2.1 q 26 = some (q + 711) := r' 26
  have f27 : S4.2.1 q 27 = some (q + 713) := r' 27
  have f29 : S4.2.1 q 29 = some (q + 715) := r' 29
  have f30 : S4.2.1 q 30 = some (q + 716) := r' 30
  have f31 : S4.2.1 q 31 = some (q + 717) := r' 31
  have f32 : S4.2.1 q 32 = some (q + 718) := r' 32
  have f34 : S4.2.1 q 34 = some (q + 719) := r' 34
  have f35 : S4.2.1 q 35 = some (q + 723) := r' 35
  have f37 : S4.2.1 q 37 = some (q + 724) := r' 37
  have k1 : S4.1 (q + 1) = _ := (c.2.1 (q + 1) (by omega)).trans y1.1
  have w2 := (X0a.loc 100 8).goF c (by omega) (by unfold x0G x3F; omega) y2
  have w3 := X1t.loc.goF c (by omega) (by unfold x0G x3F; omega) y3
  have w22 := X2r.loc.goF c (by omega) (by unfold x0G x3F; omega) y22
  have w33 := (X4d.loc (q + 3) (q + 22)).goF c (by omega) (by unfold x0G x3F; omega) y33
  have w65 := (X7s.loc (q + 3) (q + 22)).goF c (by omega) (by unfold x0G x3F; omega) y65
  have w225 := (X8c.loc (q + 22)).goF c (by omega) (by unfold x0G x3F; omega) y225
  have w445 := (X8c.loc (q + 22)).goF c (by omega) (by unfold x0G x3F; omega) y445
  have w665 := (X6q.loc (q + 22)).goF c (by omega) (by unfold x0G x3F; omega) y665
  have w674 := (X6q.loc (q + 22)).goF c (by omega) (by unfold x0G x3F; omega) y674
  have w683 := (X6q.loc (q + 22)).goF c (by omega) (by unfold x0G x3F; omega) y683
  have w692 := (X3w.loc 160).goF c (by omega) (by unfold x0G x3F; omega) y692
  have w694 := (X3w.loc 160).goF c (by omega) (by unfold x0G x3F; omega) y694
  have w696 := (X3w.loc 160).goF c (by omega) (by unfold x0G x3F; omega) y696
  have k698 : S4.1 (q + 698) = _ := (c.2.1 (q + 698) (by omega)).trans y698.1
  have w699 := (X9l.loc 9 (q + 3)).goF c (by omega) (by unfold x0G x3F; omega) y699
  have w700 := (XO.loc (q + 3) (q + 699)).goF c (by omega) (by unfold x0G x3F; omega) y700
  have w705 := X5p.loc.goF c (by omega) (by unfold x0G x3F; omega) y705
  have k707 : S4.1 (q + 707) = _ := (c.2.1 (q + 707) (by omega)).trans y707.1
  have w708 := (X0a.loc 100 1820).goF c (by omega) (by unfold x0G x3F; omega) y708
  have k709 : S4.1 (q + 709) = _ := (c.2.1 (q + 709) (by omega)).trans y709.1
  have k710 : S4.1 (q + 710) = _ := (c.2.1 (q + 710) (by omega)).trans y710.1
  have w711 := X5p.loc.goF c (by omega) (by unfold x0G x3F; omega) y711
  have w713 := X5p.loc.goF c (by omega) (by unfold x0G x3F; omega) y713
  have w715 := (X0a.loc 107 15).goF c (by omega) (by unfold x0G x3F; omega) y715
  have w716 := (X0a.loc 100 9).goF c (by omega) (by unfold x0G x3F; omega) y716
  have w717 := (X0a.loc 100 9).goF c (by omega) (by unfold x0G x3F; omega) y717
  have k718 : S4.1 (q + 718) = _ := (c.2.1 (q + 718) (by omega)).trans y718.1
  have w719 := X13r.loc.goF c (by omega) (by unfold x0G x3F; omega) y719
  have w723 := (X0a.loc 101 20000).goF c (by omega) (by unfold x0G x3F; omega) y723
  have w724 := X13r.loc.goF c (by omega) (by unfold x0G x3F; omega) y724
  have e1' : ∀ j : Nat, 1 ≤ j → j < 8 → S4.2.1 (q + 1) j = some (q + 727 + j) ∧ X14f j S4 D4 (q + 727 + j) := fun j j1 j2 => ⟨by rw [((c2.mono (G := fun a => a = q + 698 ∨ x3F q a ∨ a = q + 718) fun a h => Or.inl h).tr ((c3.mono fun a h => Or.inr (Or.inl h)).tr (c4.mono fun a h => Or.inr (Or.inr h)))).2.2.1 (q + 1) _ (by omega) (by unfold x3F; omega)]; exact (e1 j j1 j2).1, (X14f.loc j).goF d2 (by omega) (by unfold x0G x3F; omega) (e1 j j1 j2).2⟩
  have e2' : ∀ j : Nat, j < 16 → S4.2.1 (q + 698) j = some (q + 735 + j) ∧ X15s S4 D4 (q + 735 + j) := fun j j2 => ⟨by rw [((c3.mono (G := fun a => x3F q a ∨ a = q + 718) fun a h => Or.inl h).tr (c4.mono fun a h => Or.inr h)).2.2.1 (q + 698) _ (by omega) (by unfold x3F; omega)]; exact (e2 j j2).1, X15s.loc.goF d3 (by omega) (by unfold x0G x3F; omega) (e2 j j2).2⟩
  have e3' : x3E S4 D4 q 6 := fun j hj => ⟨⟨by rw [c4.2.2.1 _ _ (by omega) (by omega)]; exact (e3 j hj).1.1, X5p.loc.goF c4 (by omega) (by omega) (e3 j hj).1.2⟩, ⟨by rw [c4.2.2.1 _ _ (by omega) (by omega)]; exact (e3 j hj).2.1.1, X5p.loc.goF c4 (by omega) (by omega) (e3 j hj).2.1.2⟩, by rw [c4.2.2.1 _ _ (by omega) (by omega)]; exact (e3 j hj).2.2.1, X5p.loc.goF c4 (by omega) (by omega) (e3 j hj).2.2.2⟩
  have hO := w700
  obtain ⟨O1, O2, O3, O4, O5, O6, O7⟩ := hO
  refine ⟨⟨⟨o', f0, k1, f1, w2.1, fun k a b => ⟨(e1' k a b).1, (e1' k a b).2.1⟩⟩, ⟨f3, w3.1⟩, ⟨f4, w22⟩, ⟨f5, w33.1⟩, ⟨f6, w65.1⟩, ⟨o', f4, w22, f7, w225.ch w22 (by omega), f8, w445.ch w22 (by omega), f12, w692.1, f13, w694.1, f14, w696.1, f34, w719, f37, w724, f32, k718, fun k hk => ⟨(e4 k hk).1, (e4 k hk).2⟩, f30, w716.1, f31, w717.1⟩,
    ⟨f9, w665⟩, ⟨f10, w674⟩, ⟨f11, w683⟩, ⟨f15, k698, fun p hp => ⟨(e2' p hp).1, (e2' p hp).2.1⟩⟩, ⟨f16, f17, O1, O2, O3, w699.1, O4.1, O5.1, O6.1, O7.1, w699.2, fun k k1 k2 => ?_⟩, ⟨f18, w705.1⟩, ⟨f19, k707, fun k hk => ⟨(e3' k hk).1.1, (e3' k hk).1.2.1⟩⟩, ⟨f21, w708.1⟩, ⟨k709, fun k hk => ⟨(e3' k hk).2.1.1, (e3' k hk).2.1.2.1⟩⟩, ⟨k710, fun k hk => ⟨(e3' k hk).2.2.1, (e3' k hk).2.2.2.1⟩⟩, ⟨w711.1, w713.1⟩, ⟨f29, w715.1⟩, f35, w723.1⟩,
    f23, f24, f26, f27, fun p hp => (e2' p hp).2.2, w715.2.1, ⟨fun k k1 k2 => (e1' k k1 k2).2.2, w3.2, O6.2.2, O7.2.2⟩, ⟨z 2, w2.2.2⟩, z 20, z 22, z 25, z 28, z 33, z 36, ⟨w65.2.1, w65.2.2⟩, ⟨_, w705.2⟩, ⟨_, w33.2⟩, ⟨_, w711.2⟩, ⟨_, w713.2⟩, fun k hk => ⟨_, (e3' k hk).2.1.2.2⟩, fun k hk => ⟨_, (e3' k hk).2.2.2.2⟩⟩
  have : k = 1 ∨ k = 2 ∨ k = 3 ∨ k = 4 := by omega
  rcases this with e | e | e | e <;> subst e
  · exact O4.2
  · exact O5.2
  · exact O6.2.1
  · exact O7.2.1
theorem x0_end {E : Ex} {q : Nat} {B1 : Nat × Nat} {S S1 : Stat} {D D1 : Dat} (h : x0W S D q) (c1 : bF (fun a => a = q + 1) S S1 D D1) (n1 : S1.2.2 = q + 735) (e1 : ∀ j : Nat, 1 ≤ j → j < 8 → S1.2.1 (q + 1) j = some (q + 727 + j) ∧ X14f j S1 D1 (q + 727 + j)) (v1 : 84 ≤ B1.1 ∧ 246176 ≤ B1.2)
    (K : ∀ (B' : Nat × Nat) (S' : Stat) (D' : Dat), cfx S' q ∧ x0D S' D' q → bF (x0G q) S S' D D' → S'.2.2 = q + 819 → E (.inl none) B' S' D') : Wp P_X0_init E 2 [some (aR q), some (aI 0)] [] B1 S1 D1 := by
  obtain ⟨o, n, r, d, y1, y2, y3, y22, y33, y65, y225, y445, y665, y674, y683, y692, y694, y696, y698, y699, y700, y705, y707, y708, y709, y710, y711, y713, y715, y716, y717, y718, y719, y723, y724⟩ := id h
  have r15 : S.2.1 q 15 = some (q + 698) := r 15
  have r19 : S.2.1 q 19 = some (q + 707) := r 19
  have r23 : S.2.1 q 23 = some (q + 709) := r 23
  have r24 : S.2.1 q 24 = some (q + 710) := r 24
  have r32 : S.2.1 q 32 = some (q + 718) := r 32
  have o1 : S1.1 q = some (0, 0) := by rw [c1.2.1 _ (by omega)]; exact o
  have q1 : ∀ i, S1.2.1 q i = S.2.1 q i := fun i => c1.2.2.1 q i (by omega) (by omega)
  refine x0_l2 16 0 _ S1 D1 rfl (Nat.le_refl _) (by omega) o1 (by rw [q1]; exact r15) (by rw [c1.2.1 _ (by omega)]; exact y698.1) (by omega) (fun j j2 => absurd j2 (Nat.not_lt_zero _)) fun B2 S2 D2 u2 c2 n2 e2 => ?_
  have o2 : S2.1 q = some (0, 0) := by rw [c2.2.1 _ (by omega)]; exact o1
  have q2 : ∀ i, S2.2.1 q i = S.2.1 q i := fun i => by rw [c2.2.2.1 q i (by omega) (by omega), q1]
  refine x0_l3 6 0 _ S2 D2 rfl (by omega) ⟨o2, by rw [q2]; exact r19, by rw [q2]; exact r23, by rw [q2]; exact r24, by rw [c2.2.1 _ (by omega), c1.2.1 _ (by omega)]; exact y707.1, by rw [c2.2.1 _ (by omega), c1.2.1 _ (by omega)]; exact y709.1, by rw [c2.2.1 _ (by omega), c1.2.1 _ (by omega)]; exact y710.1⟩ (by omega) (fun j j2 => absurd j2 (Nat.not_lt_zero _)) fun B3 S3 D3 u3 c3 n3 e3 => ?_
  have o3 : S3.1 q = some (0, 0) := by rw [c3.2.1 _ (by omega)]; exact o2
  have q3 : ∀ i, S3.2.1 q i = S.2.1 q i := fun i => by rw [c3.2.2.1 q i (by omega) (by unfold x3F; omega), q2]
  refine x0_l4 8 0 _ S3 D3 rfl (Nat.le_refl _) (by omega) o3 (by rw [q3]; exact r32) (by rw [c3.2.1 _ (by omega), c2.2.1 _ (by omega), c1.2.1 _ (by omega)]; exact y718.1) (by omega) (fun j j2 => absurd j2 (Nat.not_lt_zero _)) fun B4 S4 D4 u4 c4 n4 e4 => ?_
  exact K _ _ _ (x0_fin h c1 c2 c3 c4 n1 n2 n3 e1 e2 e3 e4) ((c1.mono fun a h => Or.inl h).tr ((c2.mono fun a h => Or.inr (Or.inl h)).tr ((c3.mono fun a h => Or.inr (Or.inr (Or.inl h))).tr (c4.mono fun a h => Or.inr (Or.inr (Or.inr h)))))) n4
