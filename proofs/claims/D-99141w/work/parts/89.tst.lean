/-! ===== tests as told (printed by gen_89.py) ===== -/
def zwor : List Int := [111, 114]
def zwand : List Int := [97, 110, 100]
def zwnot : List Int := [110, 111, 116]
def zwall : List Int := [97, 108, 108]
/-- a word stands right behind a letter or digit -/
def zlp (t : Int → Int) (n p : Int) : Bool := zL (zB t n p) && zpd t n p
/-- modes: 0 a test, 1 facts joined by and, 2 a fact, 3 what follows in a test, 4 what follows a fact -/
def zxt (t : Int → Int) (n : Int) : Nat → Int → Int → Int → (Int × Int) ⊕ (Int × List Int)
  | 0, _, _, _ => .inl (99, 0)
  | f + 1, md, k, o =>
    if md = 0 then (match zxt t n f 1 k o with
      | .inl e => .inl e
      | .inr (k1, c1) => match zxt t n f 3 k1 o with
        | .inl e => .inl e
        | .inr (k2, c2) => .inr (k2, c1 ++ c2))
    else if md = 1 then (match zxt t n f 2 k o with
      | .inl e => .inl e
      | .inr (k1, c1) => match zxt t n f 4 k1 o with
        | .inl e => .inl e
        | .inr (k2, c2) => .inr (k2, c1 ++ c2))
    else if md = 3 then (if zlp t n (zsk t n k) = true then .inl (1, zsk t n k) else if zhw t n (zsk t n k) zwor = true then (match zxt t n f 1 (zsk t n k + 2) o with
        | .inl e => .inl e
        | .inr (k1, c1) => match zxt t n f 3 k1 o with
          | .inl e => .inl e
          | .inr (k2, c2) => .inr (k2, c1 ++ (11 :: c2)))
      else .inr (zsk t n k, []))
    else if md = 4 then (if zlp t n (zsk t n k) = true then .inl (1, zsk t n k) else if zhw t n (zsk t n k) zwand = true then (match zxt t n f 2 (zsk t n k + 3) o with
        | .inl e => .inl e
        | .inr (k1, c1) => match zxt t n f 4 k1 o with
          | .inl e => .inl e
          | .inr (k2, c2) => .inr (k2, c1 ++ (10 :: c2)))
      else .inr (zsk t n k, []))
    else if zB t n (zsk t n k) = 91 then (if o = 6 then .inl (4, zsk t n k) else match zxt t n f 0 (zsk t n k + 1) (o + 1) with
      | .inl e => .inl e
      | .inr (k1, c1) => if zB t n (zsk t n k1) = 93 then .inr (zsk t n k1 + 1, c1) else .inl (1, zsk t n k1))
    else if zhw t n (zsk t n k) zwnot = true then (if o = 6 then .inl (4, zsk t n k) else match zxt t n f 2 (zsk t n k + 3) (o + 1) with
      | .inl e => .inl e
      | .inr (k1, c1) => .inr (k1, c1 ++ [12]))
    else if zhw t n (zsk t n k) zwall = true then .inr (zsk t n k + 3, [13])
    else match zex false t n (zF n) 0 k o with
      | .inl e => .inl e
      | .inr (k1, c1) => if zB t n (zsk t n k1) = 60 ∨ zB t n (zsk t n k1) = 62 ∨ zB t n (zsk t n k1) = 61 then (match zex false t n (zF n) 0 (zsk t n k1 + 1) o with
          | .inl e => .inl e
          | .inr (k2, c2) => .inr (k2, c1 ++ (c2 ++ [if zB t n (zsk t n k1) = 60 then 7 else if zB t n (zsk t n k1) = 62 then 8 else 9])))
        else .inl (1, zsk t n k1)
def zsq : List Int → Bool
  | [] => false
  | v :: w => if v = 25 then true else zsq w
def zd25 : List Int → List Int × List Int
  | [] => ([], [])
  | v :: w => if v = 25 then ([], w) else (v :: (zd25 w).1, (zd25 w).2)
def zdn (hi : Int) : List Int → List Int × List Int
  | [] => ([], [])
  | v :: w => if 10 ≤ v ∧ v ≤ hi then (v :: (zdn hi w).1, (zdn hi w).2) else ([], v :: w)
def SAt (t : Int → Int) (n : Int) (PA PE : Int → List Int → List Int → Int → Prop) (FF : Int → Int → Prop) (k : Int) (w cs : List Int) (o : Int) : Prop :=
  if zB t n (zsk t n k) = 91 then (if o = 6 then FF 4 (zsk t n k) else PA (zsk t n k + 1) (25 :: w) cs (o + 1))
  else if zhw t n (zsk t n k) zwnot = true then (if o = 6 then FF 4 (zsk t n k) else PA (zsk t n k + 3) (12 :: w) cs (o + 1))
  else if zhw t n (zsk t n k) zwall = true then PE (zsk t n k + 3) w (cs ++ [13]) o
  else match zex false t n (zF n) 0 k o with
    | .inl e => FF e.1 e.2
    | .inr (k1, c1) => if zB t n (zsk t n k1) = 60 ∨ zB t n (zsk t n k1) = 62 ∨ zB t n (zsk t n k1) = 61 then (match zex false t n (zF n) 0 (zsk t n k1 + 1) o with
        | .inl e => FF e.1 e.2
        | .inr (k2, c2) => PE k2 w (cs ++ (c1 ++ (c2 ++ [if zB t n (zsk t n k1) = 60 then 7 else if zB t n (zsk t n k1) = 62 then 8 else 9]))) o)
      else FF 1 (zsk t n k1)
def SEt (PE PG : Int → List Int → List Int → Int → Prop) (k : Int) (w cs : List Int) (o : Int) : Prop := match w with
  | [] => PG k [] cs o
  | v :: w => if v = 12 then PE k w (cs ++ [v]) (o - 1) else PG k (v :: w) cs o
def SGt (t : Int → Int) (n : Int) (PA PE : Int → List Int → List Int → Int → Prop) (FF : Int → Int → Prop) (PZ : Int → List Int → Int → Prop) (k : Int) (w cs : List Int) (o : Int) : Prop :=
  if zB t n (zsk t n k) = 93 ∧ zsq w = true then PE (zsk t n k + 1) (zd25 w).2 (cs ++ (zd25 w).1) (o - 1)
  else if zhw t n (zsk t n k) zwand = true then PA (zsk t n k + 3) (10 :: (zdn 10 w).2) (cs ++ (zdn 10 w).1) o
  else if zhw t n (zsk t n k) zwor = true then PA (zsk t n k + 2) (11 :: (zdn 11 w).2) (cs ++ (zdn 11 w).1) o
  else if zsq w = true then FF 1 (zsk t n k)
  else PZ (zsk t n k) (cs ++ w) o
section TST
variable {t : Int → Int} {n k o : Int}
theorem zlp_hw {p : Int} {V : List Int} (h : zlp t n p = true) : zhw t n p V = false := by
  unfold zlp at h
  unfold zhw zwb
  simp only [Bool.and_eq_true] at h
  rw [h.2]; simp
def zopa (t : Int → Int) (n k : Int) : Prop := zhw t n (zsk t n k) zwand = true
def zopo (t : Int → Int) (n k : Int) : Prop := zhw t n (zsk t n k) zwor = true
def ZPt (t : Int → Int) (n : Int) (f : Nat) (md k o : Int) : Prop :=
  (∀ k1 c, zxt t n f md k o = .inr (k1, c) → k ≤ k1 ∧ k1 ≤ n ∧ (md ≤ 2 → k < k1) ∧ (c.length : Int) ≤ k1 - k ∧ (md = 1 ∨ md = 4 → ¬ zopa t n k1) ∧ (md = 0 → ¬ zopa t n k1 ∧ ¬ zopo t n k1 ∧ zsk t n k1 = k1) ∧ (md = 3 → ¬ zopa t n k → ¬ zopa t n k1 ∧ ¬ zopo t n k1 ∧ zsk t n k1 = k1))
  ∧ (6 * (n - k) + zrk md ≤ f → ∀ p, zxt t n f md k o ≠ .inl (99, p))
theorem zxt_pr : ∀ (f : Nat) (md k o : Int), 0 ≤ k → k ≤ n → 0 ≤ md → md ≤ 4 → ZPt t n f md k o := by
  intro f
  induction f with
  | zero =>
    intro md k o h0 h1 m0 m1
    refine ⟨fun k1 c e => (by cases e), fun hf => ?_⟩
    unfold zrk at hf; exfalso; revert hf; split
    · intro hf; omega
    · split <;> (intro hf; omega)
  | succ f ih =>
    intro md k o h0 h1 m0 m1
    have hs := @zsk_le k n t h1
    have hss : zsk t n (zsk t n k) = zsk t n k := zsk_zsk h0 h1
    have hmd : md = 0 ∨ md = 1 ∨ md = 2 ∨ md = 3 ∨ md = 4 := by omega
    have hlf : ∀ {md : Int} {Z : (Int × Int) ⊕ (Int × List Int)} (a b : Int), a ≠ 99 → Z = .inl (a, b) → (∀ k1 c, Z = .inr (k1, c) → k ≤ k1 ∧ k1 ≤ n ∧ (md ≤ 2 → k < k1) ∧ (c.length : Int) ≤ k1 - k ∧ (md = 1 ∨ md = 4 → ¬ zopa t n k1) ∧ (md = 0 → ¬ zopa t n k1 ∧ ¬ zopo t n k1 ∧ zsk t n k1 = k1) ∧ (md = 3 → ¬ zopa t n k → ¬ zopa t n k1 ∧ ¬ zopo t n k1 ∧ zsk t n k1 = k1)) ∧ (6 * (n - k) + zrk md ≤ ((f + 1 : Nat) : Int) → ∀ p, Z ≠ .inl (99, p)) := by
      intro md Z a b ha e; subst e
      exact ⟨fun k1 c e => (by simp at e), fun _ p e => by simp only [Sum.inl.injEq, Prod.mk.injEq] at e; exact ha e.1⟩
    have hln : ∀ {md : Int} {Z : (Int × Int) ⊕ (Int × List Int)} (a b : Int), (6 * (n - k) + zrk md ≤ ((f + 1 : Nat) : Int) → a ≠ 99) → Z = .inl (a, b) → (∀ k1 c, Z = .inr (k1, c) → k ≤ k1 ∧ k1 ≤ n ∧ (md ≤ 2 → k < k1) ∧ (c.length : Int) ≤ k1 - k ∧ (md = 1 ∨ md = 4 → ¬ zopa t n k1) ∧ (md = 0 → ¬ zopa t n k1 ∧ ¬ zopo t n k1 ∧ zsk t n k1 = k1) ∧ (md = 3 → ¬ zopa t n k → ¬ zopa t n k1 ∧ ¬ zopo t n k1 ∧ zsk t n k1 = k1)) ∧ (6 * (n - k) + zrk md ≤ ((f + 1 : Nat) : Int) → ∀ p, Z ≠ .inl (99, p)) := by
      intro md Z a b ha e; subst e
      exact ⟨fun k1 c e => (by simp at e), fun hf p e => by simp only [Sum.inl.injEq, Prod.mk.injEq] at e; exact ha hf e.1⟩
    have hrt : ∀ {md : Int} {Z : (Int × Int) ⊕ (Int × List Int)} (q : Int) (c : List Int), k ≤ q → q ≤ n → (md ≤ 2 → k < q) → (c.length : Int) ≤ q - k → (md = 1 ∨ md = 4 → ¬ zopa t n q) → (md = 0 → ¬ zopa t n q ∧ ¬ zopo t n q ∧ zsk t n q = q) → (md = 3 → ¬ zopa t n k → ¬ zopa t n q ∧ ¬ zopo t n q ∧ zsk t n q = q) → Z = .inr (q, c) → (∀ k1 c, Z = .inr (k1, c) → k ≤ k1 ∧ k1 ≤ n ∧ (md ≤ 2 → k < k1) ∧ (c.length : Int) ≤ k1 - k ∧ (md = 1 ∨ md = 4 → ¬ zopa t n k1) ∧ (md = 0 → ¬ zopa t n k1 ∧ ¬ zopo t n k1 ∧ zsk t n k1 = k1) ∧ (md = 3 → ¬ zopa t n k → ¬ zopa t n k1 ∧ ¬ zopo t n k1 ∧ zsk t n k1 = k1)) ∧ (6 * (n - k) + zrk md ≤ ((f + 1 : Nat) : Int) → ∀ p, Z ≠ .inl (99, p)) := by
      intro md Z q c a1 a2 a3 a4 a5 a6 a7 e; subst e
      refine ⟨fun k1 c1 e => ?_, fun _ p e => (by simp at e)⟩
      simp only [Sum.inr.injEq, Prod.mk.injEq] at e
      obtain ⟨e1', e2'⟩ := e
      subst e1'; subst e2'
      exact ⟨a1, a2, a3, a4, a5, a6, a7⟩
    rcases hmd with e | e | e | e | e <;> subst e
    · -- a test
      unfold ZPt
      generalize eZ : zxt t n (f + 1) 0 k o = Z
      simp only [zxt, if_true, if_false, Int.reduceEq] at eZ
      have i1 := ih 1 (k) (o) h0 h1 (by omega) (by omega)
      unfold ZPt at i1
      cases e1 : zxt t n f 1 (k) (o) with
      | inl x =>
        obtain ⟨a, b⟩ := x
        simp only [e1] at eZ
        refine hln a b (fun hf q => i1.2 (by simp [zrk] at hf ⊢; omega) b (by rw [e1, q])) eZ.symm
      | inr x =>
        obtain ⟨ka, ca⟩ := x
        have j1 := i1.1 ka ca e1
        have hs1 := @zsk_le ka n t j1.2.1
        simp only [e1] at eZ
        have i2 := ih 3 (ka) (o) (by omega) j1.2.1 (by omega) (by omega)
        unfold ZPt at i2
        cases e2 : zxt t n f 3 (ka) (o) with
        | inl x =>
          obtain ⟨a, b⟩ := x
          simp only [e2] at eZ
          refine hln a b (fun hf q => i2.2 (by simp [zrk] at hf ⊢; omega) b (by rw [e2, q])) eZ.symm
        | inr x =>
          obtain ⟨kb, cb⟩ := x
          have j2 := i2.1 kb cb e2
          have hs2 := @zsk_le kb n t j2.2.1
          simp only [e2] at eZ
          exact hrt kb (ca ++ cb) (by omega) (by omega) (fun _ => by omega) (by first | omega | (simp only [List.length_append, List.length_cons, List.length_nil]; omega)) (fun q => (by simp at q)) (fun _ => j2.2.2.2.2.2.2 rfl (j1.2.2.2.2.1 (Or.inl rfl))) (fun q => (by simp at q)) eZ.symm
    · -- facts
      unfold ZPt
      generalize eZ : zxt t n (f + 1) 1 k o = Z
      simp only [zxt, if_true, if_false, Int.reduceEq] at eZ
      have i3 := ih 2 (k) (o) h0 h1 (by omega) (by omega)
      unfold ZPt at i3
      cases e3 : zxt t n f 2 (k) (o) with
      | inl x =>
        obtain ⟨a, b⟩ := x
        simp only [e3] at eZ
        refine hln a b (fun hf q => i3.2 (by simp [zrk] at hf ⊢; omega) b (by rw [e3, q])) eZ.symm
      | inr x =>
        obtain ⟨ka, ca⟩ := x
        have j3 := i3.1 ka ca e3
        have hs3 := @zsk_le ka n t j3.2.1
        simp only [e3] at eZ
        have i4 := ih 4 (ka) (o) (by omega) j3.2.1 (by omega) (by omega)
        unfold ZPt at i4
        cases e4 : zxt t n f 4 (ka) (o) with
        | inl x =>
          obtain ⟨a, b⟩ := x
          simp only [e4] at eZ
          refine hln a b (fun hf q => i4.2 (by simp [zrk] at hf ⊢; omega) b (by rw [e4, q])) eZ.symm
        | inr x =>
          obtain ⟨kb, cb⟩ := x
          have j4 := i4.1 kb cb e4
          have hs4 := @zsk_le kb n t j4.2.1
          simp only [e4] at eZ
          exact hrt kb (ca ++ cb) (by omega) (by omega) (fun _ => by omega) (by first | omega | (simp only [List.length_append, List.length_cons, List.length_nil]; omega)) (fun _ => j4.2.2.2.2.1 (Or.inr rfl)) (fun q => (by simp at q)) (fun q => (by simp at q)) eZ.symm
    · -- a fact
      unfold ZPt
      generalize eZ : zxt t n (f + 1) 2 k o = Z
      simp only [zxt, if_true, if_false, Int.reduceEq] at eZ
      by_cases g1 : zB t n (zsk t n k) = 91
      · rw [if_pos g1] at eZ
        have hlt := zskn h1 (by rw [g1]; decide)
        by_cases g2 : o = 6
        · rw [if_pos g2] at eZ; exact hlf _ _ (by decide) eZ.symm
        · rw [if_neg g2] at eZ
          have i5 := ih 0 (zsk t n k + 1) (o + 1) (by omega) (by omega) (by omega) (by omega)
          unfold ZPt at i5
          cases e5 : zxt t n f 0 (zsk t n k + 1) (o + 1) with
          | inl x =>
            obtain ⟨a, b⟩ := x
            simp only [e5] at eZ
            refine hln a b (fun hf q => i5.2 (by simp [zrk] at hf ⊢; omega) b (by rw [e5, q])) eZ.symm
          | inr x =>
            obtain ⟨ka, ca⟩ := x
            have j5 := i5.1 ka ca e5
            have hs5 := @zsk_le ka n t j5.2.1
            simp only [e5] at eZ
            by_cases g3 : zB t n (zsk t n ka) = 93
            · rw [if_pos g3] at eZ
              have := zskn j5.2.1 (by rw [g3]; decide)
              exact hrt _ _ (by omega) (by omega) (fun _ => by omega) (by first | omega | (simp only [List.length_append, List.length_cons, List.length_nil]; omega)) (fun q => (by simp at q)) (fun q => (by simp at q)) (fun q => (by simp at q)) eZ.symm
            · rw [if_neg g3] at eZ; exact hlf _ _ (by decide) eZ.symm
      · rw [if_neg g1] at eZ
        by_cases g2 : zhw t n (zsk t n k) zwnot = true
        · rw [if_pos g2] at eZ
          have hw : zsk t n k + 3 ≤ n := (zhw_r hs.2 g2).1
          by_cases g4 : o = 6
          · rw [if_pos g4] at eZ; exact hlf _ _ (by decide) eZ.symm
          · rw [if_neg g4] at eZ
            have i6 := ih 2 (zsk t n k + 3) (o + 1) (by omega) (by omega) (by omega) (by omega)
            unfold ZPt at i6
            cases e6 : zxt t n f 2 (zsk t n k + 3) (o + 1) with
            | inl x =>
              obtain ⟨a, b⟩ := x
              simp only [e6] at eZ
              refine hln a b (fun hf q => i6.2 (by simp [zrk] at hf ⊢; omega) b (by rw [e6, q])) eZ.symm
            | inr x =>
              obtain ⟨ka, ca⟩ := x
              have j6 := i6.1 ka ca e6
              have hs6 := @zsk_le ka n t j6.2.1
              simp only [e6] at eZ
              exact hrt _ _ (by omega) (by omega) (fun _ => by omega) (by first | omega | (simp only [List.length_append, List.length_cons, List.length_nil]; omega)) (fun q => (by simp at q)) (fun q => (by simp at q)) (fun q => (by simp at q)) eZ.symm
        · rw [if_neg g2] at eZ
          by_cases g3 : zhw t n (zsk t n k) zwall = true
          · rw [if_pos g3] at eZ
            have hw : zsk t n k + 3 ≤ n := (zhw_r hs.2 g3).1
            exact hrt _ _ (by omega) (by omega) (fun _ => by omega) (by first | omega | (simp only [List.length_append, List.length_cons, List.length_nil]; omega)) (fun q => (by simp at q)) (fun q => (by simp at q)) (fun q => (by simp at q)) eZ.symm
          · rw [if_neg g3] at eZ
            have pr := zex_pr (hm := false) (t := t) (n := n) (zF n) 0 k o h0 h1 (by omega) (by omega)
            cases e1 : zex false t n (zF n) 0 k o with
            | inl x =>
              obtain ⟨a, b⟩ := x
              simp only [e1] at eZ
              exact hlf a b (fun q => pr.2 (by simp [zrk, zF]; omega) b (by rw [e1, q])) eZ.symm
            | inr x =>
              obtain ⟨ka, ca⟩ := x
              have j := pr.1 ka ca e1
              have hs1 := @zsk_le ka n t j.2.1
              simp only [e1] at eZ
              by_cases g5 : zB t n (zsk t n ka) = 60 ∨ zB t n (zsk t n ka) = 62 ∨ zB t n (zsk t n ka) = 61
              · rw [if_pos g5] at eZ
                have hlt1 := zskn (t := t) j.2.1 (by omega)
                have pr2 := zex_pr (hm := false) (t := t) (n := n) (zF n) 0 (zsk t n ka + 1) o (by omega) (by omega) (by omega) (by omega)
                cases e2 : zex false t n (zF n) 0 (zsk t n ka + 1) o with
                | inl x =>
                  obtain ⟨a, b⟩ := x
                  simp only [e2] at eZ
                  exact hlf a b (fun q => pr2.2 (by simp [zrk, zF]; omega) b (by rw [e2, q])) eZ.symm
                | inr x =>
                  obtain ⟨kb, cb⟩ := x
                  have j2 := pr2.1 kb cb e2
                  simp only [e2] at eZ
                  exact hrt _ _ (by omega) (by omega) (fun _ => by omega) (by first | omega | (simp only [List.length_append, List.length_cons, List.length_nil]; omega)) (fun q => (by simp at q)) (fun q => (by simp at q)) (fun q => (by simp at q)) eZ.symm
              · rw [if_neg g5] at eZ; exact hlf _ _ (by decide) eZ.symm
    · -- what follows
      unfold ZPt
      generalize eZ : zxt t n (f + 1) 3 k o = Z
      simp only [zxt, if_true, if_false, Int.reduceEq] at eZ
      cases gl : zlp t n (zsk t n k)
      rotate_left
      · rw [gl, if_pos rfl] at eZ; exact hlf _ _ (by decide) eZ.symm
      rw [gl, if_neg (by decide)] at eZ
      by_cases g1 : zhw t n (zsk t n k) zwor = true
      · rw [if_pos g1] at eZ
        have hw : zsk t n k + 2 ≤ n := (zhw_r hs.2 g1).1
        have i7 := ih 1 (zsk t n k + 2) (o) (by omega) (by omega) (by omega) (by omega)
        unfold ZPt at i7
        cases e7 : zxt t n f 1 (zsk t n k + 2) (o) with
        | inl x =>
          obtain ⟨a, b⟩ := x
          simp only [e7] at eZ
          refine hln a b (fun hf q => i7.2 (by simp [zrk] at hf ⊢; omega) b (by rw [e7, q])) eZ.symm
        | inr x =>
          obtain ⟨ka, ca⟩ := x
          have j7 := i7.1 ka ca e7
          have hs7 := @zsk_le ka n t j7.2.1
          simp only [e7] at eZ
          have i8 := ih 3 (ka) (o) (by omega) j7.2.1 (by omega) (by omega)
          unfold ZPt at i8
          cases e8 : zxt t n f 3 (ka) (o) with
          | inl x =>
            obtain ⟨a, b⟩ := x
            simp only [e8] at eZ
            refine hln a b (fun hf q => i8.2 (by simp [zrk] at hf ⊢; omega) b (by rw [e8, q])) eZ.symm
          | inr x =>
            obtain ⟨kb, cb⟩ := x
            have j8 := i8.1 kb cb e8
            have hs8 := @zsk_le kb n t j8.2.1
            simp only [e8] at eZ
            exact hrt _ _ (by omega) (by omega) (fun _ => by omega) (by first | omega | (simp only [List.length_append, List.length_cons, List.length_nil]; omega)) (fun q => (by simp at q)) (fun q => (by simp at q)) (fun _ _ => j8.2.2.2.2.2.2 rfl (j7.2.2.2.2.1 (Or.inl rfl))) eZ.symm
      · rw [if_neg g1] at eZ
        exact hrt _ _ (by omega) (by omega) (fun q => (by simp at q)) (by simp; omega) (fun q => (by simp at q)) (fun q => (by simp at q)) (fun _ q => ⟨fun z => q (by unfold zopa at z ⊢; rwa [hss] at z), fun z => g1 (by unfold zopo at z; rwa [hss] at z), hss⟩) eZ.symm
    · -- what follows
      unfold ZPt
      generalize eZ : zxt t n (f + 1) 4 k o = Z
      simp only [zxt, if_true, if_false, Int.reduceEq] at eZ
      cases gl : zlp t n (zsk t n k)
      rotate_left
      · rw [gl, if_pos rfl] at eZ; exact hlf _ _ (by decide) eZ.symm
      rw [gl, if_neg (by decide)] at eZ
      by_cases g1 : zhw t n (zsk t n k) zwand = true
      · rw [if_pos g1] at eZ
        have hw : zsk t n k + 3 ≤ n := (zhw_r hs.2 g1).1
        have i9 := ih 2 (zsk t n k + 3) (o) (by omega) (by omega) (by omega) (by omega)
        unfold ZPt at i9
        cases e9 : zxt t n f 2 (zsk t n k + 3) (o) with
        | inl x =>
          obtain ⟨a, b⟩ := x
          simp only [e9] at eZ
          refine hln a b (fun hf q => i9.2 (by simp [zrk] at hf ⊢; omega) b (by rw [e9, q])) eZ.symm
        | inr x =>
          obtain ⟨ka, ca⟩ := x
          have j9 := i9.1 ka ca e9
          have hs9 := @zsk_le ka n t j9.2.1
          simp only [e9] at eZ
          have i10 := ih 4 (ka) (o) (by omega) j9.2.1 (by omega) (by omega)
          unfold ZPt at i10
          cases e10 : zxt t n f 4 (ka) (o) with
          | inl x =>
            obtain ⟨a, b⟩ := x
            simp only [e10] at eZ
            refine hln a b (fun hf q => i10.2 (by simp [zrk] at hf ⊢; omega) b (by rw [e10, q])) eZ.symm
          | inr x =>
            obtain ⟨kb, cb⟩ := x
            have j10 := i10.1 kb cb e10
            have hs10 := @zsk_le kb n t j10.2.1
            simp only [e10] at eZ
            exact hrt _ _ (by omega) (by omega) (fun _ => by omega) (by first | omega | (simp only [List.length_append, List.length_cons, List.length_nil]; omega)) (fun _ => j10.2.2.2.2.1 (Or.inr rfl)) (fun q => (by simp at q)) (fun q => (by simp at q)) eZ.symm
      · rw [if_neg g1] at eZ
        exact hrt _ _ (by omega) (by omega) (fun q => (by simp at q)) (by simp; omega) (fun _ z => g1 (by unfold zopa at z; rwa [hss] at z)) (fun q => (by simp at q)) (fun q => (by simp at q)) eZ.symm
end TST
