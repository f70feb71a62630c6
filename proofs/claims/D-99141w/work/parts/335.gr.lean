/-! ===== what grows, by fuel ===== -/
theorem after_gr {recB : Nat → ALoc → AStk → AH → Option ARes} {k : ALoc → AStk → AH → Option ARes} {a : Int} {L : ALoc} {st : AStk} {h : AH} {r : Option ARes} {out : AOut} {h' : AH} (hB : ∀ l L st h out h', recB l L st h = some (out, h') → Gr h h') (hk : ∀ L st h out h', k L st h = some (out, h') → Gr h h') (hr : ∀ out1 h1, r = some (out1, h1) → Gr h h1) (hs : after recB k a L st r = some (out, h')) : Gr h h' := by
  match r, hr, hs with
  | some (.inl none, h1), hr, hs => exact (hr _ _ rfl).trans (hk _ _ _ _ _ hs)
  | some (.inl (some v), h1), hr, hs => exact (hr _ _ rfl).trans (hk _ _ _ _ _ hs)
  | some (.inr z, h1), hr, hs =>
    simp only [after] at hs
    split at hs
    · cases hs; exact hr _ _ rfl
    · split at hs
      · cases hs
      · exact (hr _ _ rfl).trans (hB _ _ _ _ _ _ hs)
set_option maxHeartbeats 4000000 in
theorem exL_gr {recB : Nat → ALoc → AStk → AH → Option ARes} {recC : Nat → List AV → AH → Option ARes} (hB : ∀ l L st h out h', recB l L st h = some (out, h') → Gr h h') (hC : ∀ k as h out h', recC k as h = some (out, h') → Gr h h') :
    ∀ (is : List AI) (L : ALoc) (st : AStk) (h : AH) (out : AOut) (h' : AH), exL recB recC is L st h = some (out, h') → Gr h h' := by
  intro is
  induction is with
  | nil => intro L st h out h' hs; cases hs
  | cons x is ih =>
    obtain ⟨i, a, b, t⟩ := x
    intro L st h out h' hs
    cases i
    all_goals first
      | exact hB _ _ _ _ _ _ hs
      | (simp only [exL] at hs
         repeat' split at hs
         all_goals first
           | (cases hs; done)
           | (cases hs; exact Gr.refl _)
           | exact hB _ _ _ _ _ _ hs
           | exact ih _ _ _ _ _ hs
           | exact after_gr hB (fun L st h out h' q => ih _ _ _ _ _ q) (fun o h q => hC _ _ _ _ _ q) hs
           | (rename_i e1; exact (semCopy_gr e1).trans (ih _ _ _ _ _ hs))
           | (rename_i e1; exact (sem1_gr e1).trans (ih _ _ _ _ _ hs)))
theorem ex_gr {P : Nat → Nat → List AI} {ML : Nat → Nat} : ∀ {n d m l : Nat} {L : ALoc} {st : AStk} {h : AH} {out : AOut} {h' : AH}, ex P ML n d m l L st h = some (out, h') → Gr h h' := by
  intro n
  induction n with
  | zero => intro d m l L st h out h' hs; cases hs
  | succ n ih =>
    intro d m l L st h out h' hs
    refine exL_gr (fun l L st h out h' q => ih q) (fun k as h out h' q => ?_) _ _ _ _ _ _ hs
    cases d with
    | zero => cases q
    | succ d =>
      dsimp only at q
      split at q
      · exact ih q
      · cases q
