/-! ===== weakest preconditions over the interpreter: fuel hidden ===== -/
abbrev QQ : Type := AOut → AH → Prop
def rC (n d : Nat) (y : Nat) (as : List AV) (h : AH) : Option ARes := match d with
      | 0 => none
      | d + 1 => if 0 < y ∧ (lent as).length ≤ gML y then ex gP gML n d y 0 (lent as) [] h else none
def wpB (d m l : Nat) (L : ALoc) (st : AStk) (h : AH) (Q : QQ) : Prop := ∃ n out h', ex gP gML n d m l L st h = some (out, h') ∧ Q out h'
def wpL (d m : Nat) (is : List AI) (L : ALoc) (st : AStk) (h : AH) (Q : QQ) : Prop := ∃ n out h', exL (fun l => ex gP gML n d m l) (rC n d) is L st h = some (out, h') ∧ Q out h'
def wpC (d y : Nat) (as : List AV) (h : AH) (Q : QQ) : Prop := ∃ n out h', rC n d y as h = some (out, h') ∧ Q out h'
def kont (d m : Nat) (is : List AI) (a : Int) (L : ALoc) (st : AStk) (Q : QQ) (o : AOut) (h : AH) : Prop := match o with
  | .inl none => wpL d m is L st h Q
  | .inl (some v) => wpL d m is L (v :: st) h Q
  | .inr z => if a = 0 then Q (.inr z) h else if a < 0 then False else wpB d m a.toNat L [vR z] h Q
section WP
variable {d m l : Nat} {is : List AI} {a b : Int} {t : List (Int × Int)} {L : ALoc} {st : AStk} {h : AH} {Q : QQ}
theorem rC_mono {n n' d d' y : Nat} {as : List AV} {h : AH} {r : ARes} (hs : rC n d y as h = some r) (hn : n ≤ n') (hd : d ≤ d') : rC n' d' y as h = some r := by
  match d, d', hd, hs with
  | d + 1, d' + 1, hd, hs =>
    simp only [rC] at hs ⊢
    split at hs
    · rename_i h1; rw [if_pos h1]; exact ex_mono hs hn (Nat.le_of_succ_le_succ hd)
    · cases hs
theorem wpL_mono {n n' d : Nat} {r : ARes} (hs : exL (fun l => ex gP gML n d m l) (rC n d) is L st h = some r) (hn : n ≤ n') : exL (fun l => ex gP gML n' d m l) (rC n' d) is L st h = some r :=
  exL_mono (fun l L st h r hx => ex_mono hx hn (Nat.le_refl _)) (fun k as h r hx => rC_mono hx hn (Nat.le_refl _)) _ _ _ _ _ hs
theorem wpB_L : wpB d m l L st h Q ↔ wpL d m (gP m l) L st h Q := by
  constructor
  · rintro ⟨n, out, h', hs, hq⟩
    match n, hs with
    | n + 1, hs => exact ⟨n, out, h', hs, hq⟩
  · rintro ⟨n, out, h', hs, hq⟩
    exact ⟨n + 1, out, h', hs, hq⟩
theorem wpC_B {y : Nat} {as : List AV} : wpC (d + 1) y as h Q ↔ (0 < y ∧ (lent as).length ≤ gML y) ∧ wpB d y 0 (lent as) [] h Q := by
  constructor
  · rintro ⟨n, out, h', hs, hq⟩
    simp only [rC] at hs
    split at hs
    · rename_i h1; exact ⟨h1, n, out, h', hs, hq⟩
    · cases hs
  · rintro ⟨h1, n, out, h', hs, hq⟩
    exact ⟨n, out, h', by simp only [rC]; rw [if_pos h1]; exact hs, hq⟩
theorem after_iff {y : Nat} {as : List AV} : (∃ n out h', after (fun l => ex gP gML n d m l) (fun L st h => exL (fun l => ex gP gML n d m l) (rC n d) is L st h) a L st (rC n d y as h) = some (out, h') ∧ Q out h') ↔ wpC d y as h (kont d m is a L st Q) := by
  constructor
  · rintro ⟨n, out, h', hs, hq⟩
    cases hr : rC n d y as h with
    | none => rw [hr] at hs; cases hs
    | some r =>
      obtain ⟨o, h1⟩ := r
      refine ⟨n, o, h1, hr, ?_⟩
      rw [hr] at hs
      match o, hs with
      | .inl none, hs => exact ⟨n, out, h', hs, hq⟩
      | .inl (some v), hs => exact ⟨n, out, h', hs, hq⟩
      | .inr z, hs =>
        simp only [after] at hs
        show (if a = 0 then Q (.inr z) h1 else if a < 0 then False else wpB d m a.toNat L [vR z] h1 Q)
        split at hs
        · rename_i h2; rw [if_pos h2]; injection hs with hs; injection hs with e1 e2; subst e1; subst e2; exact hq
        · rename_i h2
          rw [if_neg h2]
          split at hs
          · cases hs
          · rename_i h3; rw [if_neg h3]; exact ⟨n, out, h', hs, hq⟩
  · rintro ⟨n, o, h1, hr, hk⟩
    match o, hk, hr with
    | .inl none, ⟨n2, out, h', hs, hq⟩, hr =>
      refine ⟨max n n2, out, h', ?_, hq⟩
      rw [rC_mono hr (Nat.le_max_left n n2) (Nat.le_refl _)]
      exact wpL_mono hs (Nat.le_max_right n n2)
    | .inl (some v), ⟨n2, out, h', hs, hq⟩, hr =>
      refine ⟨max n n2, out, h', ?_, hq⟩
      rw [rC_mono hr (Nat.le_max_left n n2) (Nat.le_refl _)]
      exact wpL_mono hs (Nat.le_max_right n n2)
    | .inr z, hk, hr =>
      have hk' : (if a = 0 then Q (.inr z) h1 else if a < 0 then False else wpB d m a.toNat L [vR z] h1 Q) := hk
      split at hk'
      · rename_i h2
        refine ⟨n, .inr z, h1, ?_, hk'⟩
        rw [hr]; simp only [after]; rw [if_pos h2]
      · rename_i h2
        split at hk'
        · exact hk'.elim
        · rename_i h3
          obtain ⟨n2, out, h', hs, hq⟩ := hk'
          refine ⟨max n n2, out, h', ?_, hq⟩
          rw [rC_mono hr (Nat.le_max_left n n2) (Nat.le_refl _)]
          simp only [after]; rw [if_neg h2, if_neg h3]
          exact ex_mono hs (Nat.le_max_right n n2) (Nat.le_refl _)
theorem kont_none : kont d m is a L st Q (.inl none) h ↔ wpL d m is L st h Q := Iff.rfl
theorem kont_some {v : AV} : kont d m is a L st Q (.inl (some v)) h ↔ wpL d m is L (v :: st) h Q := Iff.rfl
theorem kont_thr {z : Int} : kont d m is a L st Q (.inr z) h ↔ if a = 0 then Q (.inr z) h else if a < 0 then False else wpB d m a.toNat L [vR z] h Q := Iff.rfl
/-! monotone and deterministic -/
theorem wpC_mono {y : Nat} {as : List AV} {Q' : QQ} (hw : wpC d y as h Q) (hq : ∀ o h', Q o h' → Q' o h') : wpC d y as h Q' := by
  obtain ⟨n, out, h', hs, hk⟩ := hw
  exact ⟨n, out, h', hs, hq _ _ hk⟩
theorem wpB_mono {Q' : QQ} (hw : wpB d m l L st h Q) (hq : ∀ o h', Q o h' → Q' o h') : wpB d m l L st h Q' := by
  obtain ⟨n, out, h', hs, hk⟩ := hw
  exact ⟨n, out, h', hs, hq _ _ hk⟩
theorem wpC_deep {d' y : Nat} {as : List AV} (hw : wpC d y as h Q) (hd : d ≤ d') : wpC d' y as h Q := by
  obtain ⟨n, out, h', hs, hk⟩ := hw
  exact ⟨n, out, h', rC_mono hs (Nat.le_refl _) hd, hk⟩
/-- a contract: the call answers o and leaves h' -/
def CT (d y : Nat) (as : List AV) (h : AH) (o : AOut) (h' : AH) : Prop := ∃ n, rC n d y as h = some (o, h')
theorem CT_iff {y : Nat} {as : List AV} {o : AOut} {h' : AH} (hc : CT d y as h o h') : wpC d y as h Q ↔ Q o h' := by
  obtain ⟨n, hn⟩ := hc
  constructor
  · rintro ⟨n2, out, h2, hs, hq⟩
    have e1 := rC_mono hn (Nat.le_max_left n n2) (Nat.le_refl _)
    have e2 := rC_mono hs (Nat.le_max_right n n2) (Nat.le_refl _)
    rw [e1] at e2
    injection e2 with e2; injection e2 with e3 e4; subst e3; subst e4; exact hq
  · intro hq; exact ⟨n, o, h', hn, hq⟩
theorem CT_of {y : Nat} {as : List AV} {o : AOut} {h' : AH} (hw : wpC d y as h (fun o1 h1 => o1 = o ∧ h1 = h')) : CT d y as h o h' := by
  obtain ⟨n, out, h2, hs, e1, e2⟩ := hw
  subst e1; subst e2; exact ⟨n, hs⟩
end WP
