/-! PLAIN: class and model in one heap -/
/-- the heap shows the model's state -/
def pSh (A : pA) (u : UH) (σ : MS) : Prop := u = pUp A u σ
theorem pUp_eq {A : pA} {u : UH} {σ : MS} (h : ∀ c, (pUp A u σ).2.2 c = u.2.2 c) : u = pUp A u σ := by
  obtain ⟨u1, u2, u3⟩ := u
  show (u1, u2, u3) = (u1, u2, pMap A u3 σ)
  rw [show pMap A u3 σ = u3 from funext h]
theorem pUp_ix {A : pA} {c : Nat} : c = A.1 ∨ (∃ j ∈ mIx, c = A.2 j) ∨ (c ≠ A.1 ∧ ∀ j ∈ mIx, c ≠ A.2 j) := by
  by_cases h1 : c = A.1
  · exact Or.inl h1
  · by_cases h2 : ∃ j ∈ mIx, c = A.2 j
    · exact Or.inr (Or.inl h2)
    · exact Or.inr (Or.inr ⟨h1, fun j hj z => h2 ⟨j, hj, z⟩⟩)
theorem pSh.step {b : Nat} {A : pA} {U U' : UH} {σ : MS} {lab : Nat → Nat} (hA : pGood b A) (hl : lab A.1 = 10 ∧ ∀ j ∈ mIx, lab (A.2 j) = 10) (h : pSh A U σ) (hm : ∀ x, lab x = 10 → U'.2.2 x = U.2.2 x) : pSh A U' σ := by
  refine pUp_eq (fun c => ?_)
  rcases pUp_ix (A := A) (c := c) with rfl | ⟨j, hj, rfl⟩ | ⟨h1, h2⟩
  · rw [hm _ hl.1]
    have h : U = pUp A U σ := h
    rw [h]
    exact (pUp_obj A U' σ).trans (pUp_obj A U σ).symm
  · rw [hm _ (hl.2 j hj)]
    have h : U = pUp A U σ := h
    rw [h]
    exact (pUp_arr hA U' σ hj).trans (pUp_arr hA U σ hj).symm
  · exact pUp_else U' σ h1 h2
theorem pSh.up {b : Nat} {A : pA} {U : UH} {σ : MS} (hA : pGood b A) : pSh A (pUp A U σ) σ := by
  refine pUp_eq (fun c => ?_)
  rcases pUp_ix (A := A) (c := c) with rfl | ⟨j, hj, rfl⟩ | ⟨h1, h2⟩
  · exact (pUp_obj A _ σ).trans (pUp_obj A U σ).symm
  · exact (pUp_arr hA _ σ hj).trans (pUp_arr hA U σ hj).symm
  · exact pUp_else _ σ h1 h2
section N0s
variable {N b : Nat} {g : uEnv} {A : pA} {ad sa : Nat → Nat} {Q : qT} {U : UH} {lab : Nat → Nat} {σ : MS}
/-- the class's world does not ask for the model's cells -/
theorem xSt.up {σ' : MS} (hQ : qOk Q) (h : xSt b g A ad sa Q U lab σ) : xSt b g A ad sa Q (pUp A U σ') lab σ := by
  obtain ⟨bkv, mpv, ptv, hx, hI⟩ := h
  obtain ⟨ho, hb, ⟨hl, hf⟩, hE, ⟨hA1, hA2⟩, ⟨l0, h1, hS, h2, h3⟩, hbm, hq⟩ := id hI
  have el : ∀ {x}, lab x ≠ 10 → (pUp A U σ').2.2 x = U.2.2 x := fun {x} q => pUp_else U σ' (fun z => q (by rw [z]; exact hA1)) (fun j hj z => q (by rw [z]; exact hA2 j hj))
  have ns : ∀ {p : Nat → Prop}, ¬ p 11 → ¬ p 10 → uLb lab lab U (pUp A U σ') p := fun p11 p10 => hI.lb (fun _ _ => rfl) (fun x _ q => el (fun z => p10 (by rw [← z]; exact q))) p11
  have ho' : uOld (pUp A U σ') := fun x e q => by
    show x < U.1
    by_cases c : lab x = 10
    · exact hI.lt c (by decide)
    · rw [el c] at q
      exact ho x e q
  refine ⟨bkv, mpv, ptv, (el (by omega)).trans hx, hI.gen ho' (Nat.le_refl _) (fun _ _ => rfl) hf (fun x q => el (by rw [hl x q]; decide)) (h1.hp (ns (by decide) (by decide))) (hS.hp (ns (by decide) (by decide))) (h2.hp hl (ns (by decide) (by decide))) (h3.hp (ns (by decide) (by decide))) (hbm.hp hl (show U.1 ≤ (pUp A U σ').1 from Nat.le_refl _) (ns (by decide) (by decide))) (hQ _ _ _ _ _ _ _ _ (ns (by unfold qLb; decide) (by unfold qLb; decide)) ⟨fun _ _ => rfl, fun _ _ => rfl, Or.inl rfl⟩ hq)⟩
/-- class and model, between two calls -/
def lSh (b : Nat) (g : uEnv) (A : pA) (ad sa : Nat → Nat) (Q : qT) (u : UH) (σ : MS) : Prop := pSh A u σ ∧ ∃ lab, xSt b g A ad sa Q u lab σ
/-- one call, both sides -/
theorem lSh.call {U' : UH} {σ' : MS} {dc ds : Nat} (hA : pGood b A) (hQ : qOk Q) (hp : pSh A U σ) (h : xSt b g A ad sa Q U lab σ) (hs : xStep b g A ad sa Q U lab U' σ' dc ds) : pSh A U' σ ∧ lSh b g A ad sa Q (pUp A U' σ') σ' ∧ (pUp A U' σ').1 = U.1 + dc ∧ (pUp A U' σ').2.1 = U.2.1 + ds := by
  obtain ⟨lab', h1, h2, h3, h4⟩ := hs
  obtain ⟨bkv, mpv, ptv, hx, hI⟩ := id h
  exact ⟨hp.step hA hI.2.2.2.2.1 h2, ⟨pSh.up hA, lab', h1.up hQ⟩, h3, h4⟩
end N0s
