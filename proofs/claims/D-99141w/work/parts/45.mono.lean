/-! ===== more fuel, more depth: the same answer ===== -/
section MONO
variable {recB recB' : Nat → ALoc → AStk → AH → Option ARes} {recC recC' : Nat → List AV → AH → Option ARes}
theorem after_mono {k k' : ALoc → AStk → AH → Option ARes} {a : Int} {L : ALoc} {st : AStk} {q q' : Option ARes} {r : ARes} (hB : ∀ l L st h r, recB l L st h = some r → recB' l L st h = some r) (hk : ∀ L st h r, k L st h = some r → k' L st h = some r) (hq : ∀ x, q = some x → q' = some x) (hs : after recB k a L st q = some r) : after recB' k' a L st q' = some r := by
  match q, hq, hs with
  | some (.inl none, h), hq, hs => rw [hq _ rfl]; exact hk _ _ _ _ hs
  | some (.inl (some v), h), hq, hs => rw [hq _ rfl]; exact hk _ _ _ _ hs
  | some (.inr z, h), hq, hs =>
    rw [hq _ rfl]
    simp only [after] at hs ⊢
    split at hs
    · rename_i h1; rw [if_pos h1]; exact hs
    · rename_i h1
      rw [if_neg h1]
      split at hs
      · cases hs
      · rename_i h2; rw [if_neg h2]; exact hB _ _ _ _ _ hs
theorem virt_mono {k k' : ALoc → AStk → AH → Option ARes} {a b : Int} {t : List (Int × Int)} {L : ALoc} {st : AStk} {h : AH} {r : ARes} (hB : ∀ l L st h r, recB l L st h = some r → recB' l L st h = some r) (hC : ∀ k as h r, recC k as h = some r → recC' k as h = some r) (hk : ∀ L st h r, k L st h = some r → k' L st h = some r)
    (hs : (match popN (b.toNat + 1) st [] with
      | some (.inr (.inr z) :: as, rest) => match asc t (ah_t h z).1 with
        | some y => if stw rest ≤ 8 then after recB k a L rest (recC y.toNat (.inr (.inr z) :: as) h) else none
        | none => none
      | _ => none) = some r) : (match popN (b.toNat + 1) st [] with
      | some (.inr (.inr z) :: as, rest) => match asc t (ah_t h z).1 with
        | some y => if stw rest ≤ 8 then after recB' k' a L rest (recC' y.toNat (.inr (.inr z) :: as) h) else none
        | none => none
      | _ => none) = some r := by
  split at hs
  · split at hs
    · split at hs
      · rename_i h3
        rw [if_pos h3]
        exact after_mono hB hk (fun x hx => hC _ _ _ _ hx) hs
      · cases hs
    · cases hs
  · cases hs
set_option maxHeartbeats 4000000 in
theorem exL_mono (hB : ∀ l L st h r, recB l L st h = some r → recB' l L st h = some r) (hC : ∀ k as h r, recC k as h = some r → recC' k as h = some r) :
    ∀ (is : List AI) (L : ALoc) (st : AStk) (h : AH) (r : ARes), exL recB recC is L st h = some r → exL recB' recC' is L st h = some r := by
  intro is
  induction is with
  | nil => intro L st h r hs; cases hs
  | cons x is ih =>
    obtain ⟨i, a, b, t⟩ := x
    intro L st h r hs
    cases i
    case nop => exact hB _ _ _ _ _ hs
    case goto => exact hB _ _ _ _ _ hs
    case ifCond =>
      simp only [exL] at hs ⊢
      split at hs
      · split at hs
        · rename_i hc; rw [if_pos hc]; exact hB _ _ _ _ _ hs
        · rename_i hc; rw [if_neg hc]; exact ih _ _ _ _ hs
      · cases hs
    case if_icmp =>
      simp only [exL] at hs ⊢
      split at hs
      · split at hs
        · rename_i hc; rw [if_pos hc]; exact hB _ _ _ _ _ hs
        · rename_i hc; rw [if_neg hc]; exact ih _ _ _ _ hs
      · cases hs
    case if_acmp =>
      simp only [exL] at hs ⊢
      split at hs
      · split at hs
        · rename_i hc; rw [if_pos hc]
          split at hs
          · rename_i hc; rw [if_pos hc]; exact hB _ _ _ _ _ hs
          · rename_i hc; rw [if_neg hc]; exact ih _ _ _ _ hs
        · rename_i hc; rw [if_neg hc]
          split at hs
          · rename_i hc; rw [if_pos hc]
            split at hs
            · rename_i hc; rw [if_pos hc]; exact hB _ _ _ _ _ hs
            · rename_i hc; rw [if_neg hc]; exact ih _ _ _ _ hs
          · cases hs
      · cases hs
    case ifnull =>
      simp only [exL] at hs ⊢
      split at hs
      · split at hs
        · rename_i hc; rw [if_pos hc]; exact hB _ _ _ _ _ hs
        · rename_i hc; rw [if_neg hc]
          split at hs
          · rename_i hc; rw [if_pos hc]; exact ih _ _ _ _ hs
          · cases hs
      · cases hs
    case ifnonnull =>
      simp only [exL] at hs ⊢
      split at hs
      · split at hs
        · rename_i hc; rw [if_pos hc]; exact ih _ _ _ _ hs
        · rename_i hc; rw [if_neg hc]
          split at hs
          · rename_i hc; rw [if_pos hc]; exact hB _ _ _ _ _ hs
          · cases hs
      · cases hs
    case tableswitch =>
      simp only [exL] at hs ⊢
      split at hs
      · exact hB _ _ _ _ _ hs
      · cases hs
    case lookupswitch =>
      simp only [exL] at hs ⊢
      split at hs
      · exact hB _ _ _ _ _ hs
      · cases hs
    case return_ => exact hs
    case ireturn => exact hs
    case lreturn => exact hs
    case areturn => exact hs
    case athrow => exact hs
    case invokestatic =>
      simp only [exL] at hs ⊢
      split at hs
      · rename_i hc; rw [if_pos hc]
        split at hs
        · exact ih _ _ _ _ hs
        · cases hs
      · rename_i hc; rw [if_neg hc]
        split at hs
        · split at hs
          · rename_i hc; rw [if_pos hc]
            split at hs
            · exact after_mono hB (fun L st h r q => ih _ _ _ _ q) (fun x hx => hC _ _ _ _ hx) hs
            · cases hs
          · cases hs
        · cases hs
    case invokespecial =>
      simp only [exL] at hs ⊢
      split at hs
      · rename_i hc; rw [if_pos hc]
        split at hs
        · split at hs
          · rename_i hc; rw [if_pos hc]; exact ih _ _ _ _ hs
          · cases hs
        · cases hs
      · rename_i hc; rw [if_neg hc]
        exact virt_mono hB hC (fun L st h r q => ih _ _ _ _ q) hs
    case invokevirtual =>
      simp only [exL] at hs ⊢
      split at hs
      · rename_i hc; rw [if_pos hc]
        split at hs
        · split at hs
          · rename_i hc; rw [if_pos hc]; exact ih _ _ _ _ hs
          · cases hs
        · cases hs
      · rename_i hc; rw [if_neg hc]
        exact virt_mono hB hC (fun L st h r q => ih _ _ _ _ q) hs
    case invokeinterface =>
      simp only [exL] at hs ⊢
      exact virt_mono hB hC (fun L st h r q => ih _ _ _ _ q) hs
    all_goals
      simp only [exL] at hs ⊢
      split at hs
      · exact ih _ _ _ _ hs
      · cases hs
end MONO
theorem ex_mono {P : Nat → Nat → List AI} {ML : Nat → Nat} : ∀ {n d m l : Nat} {L : ALoc} {st : AStk} {h : AH} {r : ARes}, ex P ML n d m l L st h = some r → ∀ {n' d' : Nat}, n ≤ n' → d ≤ d' → ex P ML n' d' m l L st h = some r := by
  intro n
  induction n with
  | zero => intro d m l L st h r hs; cases hs
  | succ n ih =>
    intro d m l L st h r hs n' d' hn hd
    obtain ⟨n', rfl⟩ : ∃ k, n' = k + 1 := ⟨n' - 1, by omega⟩
    refine exL_mono (fun l L st h r q => ih q (by omega) hd) (fun k as h r q => ?_) _ _ _ _ _ hs
    cases d with
    | zero => cases q
    | succ d =>
      obtain ⟨d', rfl⟩ : ∃ k, d' = k + 1 := ⟨d' - 1, by omega⟩
      dsimp only at q ⊢
      split at q
      · rename_i hc; rw [if_pos hc]; exact ih q (by omega) (by omega)
      · cases q
