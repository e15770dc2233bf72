/-! PLAIN: the model's functions over the heap are those over σ -/
def pL {α : Type} (A : pA) (u : UH) (z : α × MS) : α × UH := (z.1, pUp A u z.2)
theorem p_ib {α β : Type} {c : Prop} [Decidable c] (v : α) (f : α → Option β) : (if c then some v else none).bind f = if c then f v else none := by split <;> rfl
theorem p_fit (v : Int32) : uFit .boolean v = mBit v := by
  by_cases h0 : v = 0
  · subst h0; rfl
  · by_cases h1 : v = 1
    · subst h1; rfl
    · have e : mBit v = false := by simp [mBit, h0, h1]
      rw [e]
      unfold uFit
      have hn : ∃ w, narrow .boolean (.int v) = .int w ∧ (w = 0 ∨ w = 1) := by
        refine ⟨v &&& 1, rfl, ?_⟩
        have h : (v &&& 1).toBitVec = (BitVec.ofBool (v.toBitVec.getLsbD 0)).setWidth 32 := by
          rw [Int32.toBitVec_and]
          exact BitVec.and_one_eq_setWidth_ofBool_getLsbD
        cases hb : v.toBitVec.getLsbD 0 with
        | false => rw [hb] at h; exact Or.inl (Int32.toBitVec_inj.mp (h.trans rfl))
        | true => rw [hb] at h; exact Or.inr (Int32.toBitVec_inj.mp (h.trans rfl))
      obtain ⟨w, h2, h3⟩ := hn
      rw [h2]
      rcases h3 with rfl | rfl
      · simp [Ne.symm h0]
      · simp [Ne.symm h1]
theorem p_ucall {α β : Type} {A : pA} {u : UH} (o : Option (α × MS)) (f : α → UH → Option β) : ucall (o.map (pL A u)) f = o.bind fun z => f z.1 (pUp A u z.2) := by cases o <;> rfl
theorem p_mcall {α β γ : Type} (o : Option (α × MS)) (f : α → MS → Option β) (h : β → γ) : (mcall o f).map h = o.bind fun z => (f z.1 z.2).map h := by cases o <;> rfl
theorem p_mcallv {β γ : Type} (o : Option MS) (f : MS → Option β) (h : β → γ) : (mcallv o f).map h = o.bind fun z => (f z).map h := by cases o <;> rfl
theorem p_mite {α β : Type} {c : Prop} [Decidable c] (x y : Option α) (h : α → β) : (if c then x else y).map h = if c then x.map h else y.map h := by split <;> rfl
theorem p_mbv {α β : Type} (o : Option α) (f : α → UH) (k : UH → Option β) : (o.map f).bind k = o.bind fun z => k (f z) := by cases o <;> rfl
theorem p_mb2 {α β γ : Type} (o : Option α) (f : α → Option β) (h : β → γ) : (o.bind f).map h = o.bind fun z => (f z).map h := by cases o <;> rfl
/-- rows whose proofs aren't by rfl: a step by rfl makes the kernel look into tests (and count to 102400) -/
theorem p_let {α β : Type} (a : α) (f : α → β) : mlet a f = f a := congrArg (fun z : α => f z) (Eq.refl a)
theorem p_bs {α β : Type} (a : α) (f : α → Option β) : (some a).bind f = f a := congrArg (fun z : α => f z) (Eq.refl a)
theorem p_ms {α β : Type} (a : α) (f : α → β) : (some a).map f = some (f a) := congrArg (fun z : α => some (f z)) (Eq.refl a)
theorem p_mn {α β : Type} (f : α → β) : (none : Option α).map f = none := congrArg (fun z : Option β => z) (Eq.refl none)
theorem p_pL {α : Type} (A : pA) (u : UH) (x : α) (σ : MS) : pL A u (x, σ) = (x, pUp A u σ) := congrArg (fun z : α => (z, pUp A u σ)) (Eq.refl x)
