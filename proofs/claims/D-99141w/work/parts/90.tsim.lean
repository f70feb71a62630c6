/-! ===== tests: a pile of what waits tells the same codes ===== -/
def ntt (hi : Int) (w : List Int) : Prop := match w with
  | [] => True
  | v :: _ => ¬ (10 ≤ v ∧ v ≤ hi) ∧ v ≠ 12
section TSIM
variable {t : Int → Int} {n k o : Int} {PA PE PG : Int → List Int → List Int → Int → Prop} {FF : Int → Int → Prop} {PZ : Int → List Int → Int → Prop} {w cs pend : List Int}
theorem ntt_10 (h : ntt 11 w) : ntt 10 w := by
  match w, h with
  | [], _ => trivial
  | v :: _, h => exact ⟨fun q => h.1 (by omega), h.2⟩
theorem zdn_n {m : Int} (h : ntt m w) : zdn m w = ([], w) := by
  match w, h with
  | [], _ => rfl
  | v :: _, h => simp only [zdn]; rw [if_neg h.1]
theorem zdn_p {m op : Int} (h : ntt m w) (h1 : 10 ≤ op) (h2 : op ≤ m) : zdn m (op :: w) = ([op], w) := by
  simp only [zdn]; rw [if_pos ⟨h1, h2⟩, zdn_n h]
theorem zhw_L {p : Int} {V : List Int} (e : zhw t n p V = true) : zL (zB t n p) = true := by
  unfold zhw zwb at e
  simp only [Bool.and_eq_true] at e
  exact e.1.1
theorem zhw_93 {p : Int} {V : List Int} (e : zhw t n p V = true) : zB t n p ≠ 93 ∧ zB t n p ≠ -1 := by
  have := zhw_L e
  constructor <;> (intro q; rw [q] at this; cases this)
theorem zlp_93 {p : Int} (e : zlp t n p = true) : zB t n p ≠ 93 ∧ zB t n p ≠ -1 := by
  unfold zlp at e
  simp only [Bool.and_eq_true] at e
  constructor <;> (intro q; rw [q] at e; cases e.1)
theorem SGt_p {op : Int} (h1 : op = 10 ∨ op = 11) (hn : ¬ zopa t n k) (hn2 : op = 10 ∨ ¬ zopo t n k) (h : SGt t n PA PE FF PZ k w (cs ++ [op]) o) : SGt t n PA PE FF PZ k (op :: w) cs o := by
  unfold SGt at h ⊢
  unfold zopa at hn
  have e1 : zsq (op :: w) = zsq w := by simp only [zsq]; rw [if_neg (by omega)]
  have e2 : zd25 (op :: w) = (op :: (zd25 w).1, (zd25 w).2) := by simp only [zd25]; rw [if_neg (by omega)]
  have e3 : zdn 11 (op :: w) = (op :: (zdn 11 w).1, (zdn 11 w).2) := by simp only [zdn]; rw [if_pos (by omega)]
  rw [e1, e2, e3]
  simp only [List.append_assoc, List.cons_append, List.nil_append] at h ⊢
  by_cases g : zB t n (zsk t n k) = 93 ∧ zsq w = true
  · rw [if_pos g] at h ⊢; exact h
  · rw [if_neg g, if_neg hn] at h ⊢
    exact h
theorem SGt_s (h0 : 0 ≤ k) (h1 : k ≤ n) (h : SGt t n PA PE FF PZ (zsk t n k) w cs o) : SGt t n PA PE FF PZ k w cs o := by
  unfold SGt at h ⊢; rw [zsk_zsk h0 h1] at h; exact h
theorem SGt_lp (hz : ∀ p c o, zsk t n p = p → zB t n p ≠ -1 → FF 1 p → PZ p c o) (h0 : 0 ≤ k) (h1 : k ≤ n) (g : zlp t n (zsk t n k) = true) (hF : FF 1 (zsk t n k)) : SGt t n PA PE FF PZ k w cs o := by
  unfold SGt
  have g2 := zlp_93 g
  rw [if_neg (fun q => g2.1 q.1), zlp_hw g, zlp_hw g, if_neg (by decide), if_neg (by decide)]
  split
  · exact hF
  · exact hz _ _ _ (zsk_zsk h0 h1) g2.2 hF
theorem zsimt (hz : ∀ p c o, zsk t n p = p → zB t n p ≠ -1 → FF 1 p → PZ p c o) (hA : ∀ k w cs o, 0 ≤ k → k ≤ n → SAt t n PA PE FF k w cs o → PA k w cs o) (hE : ∀ k w cs o, SEt PE PG k w cs o → PE k w cs o) (hG : ∀ k w cs o, 0 ≤ k → k ≤ n → SGt t n PA PE FF PZ k w cs o → PG k w cs o) : ∀ (f : Nat),
    (∀ k w cs o, 0 ≤ k → k ≤ n → ZK FF (zxt t n f 2 k o) (fun k1 c1 => PE k1 w (cs ++ c1) o) → PA k w cs o)
    ∧ (∀ k w cs o, 0 ≤ k → k ≤ n → ntt 10 w → ZK FF (zxt t n f 1 k o) (fun k1 c1 => SGt t n PA PE FF PZ k1 w (cs ++ c1) o) → PA k w cs o)
    ∧ (∀ k w cs o, 0 ≤ k → k ≤ n → ntt 11 w → ZK FF (zxt t n f 0 k o) (fun k1 c1 => SGt t n PA PE FF PZ k1 w (cs ++ c1) o) → PA k w cs o)
    ∧ (∀ k w pend cs o, 0 ≤ k → k ≤ n → ntt 10 w → (pend = [] ∨ pend = [10]) → ZK FF (zxt t n f 4 k o) (fun k1 c1 => SGt t n PA PE FF PZ k1 w (cs ++ (pend ++ c1)) o) → PG k (pend ++ w) cs o)
    ∧ (∀ k w pend cs o, 0 ≤ k → k ≤ n → ntt 11 w → (pend = [] ∨ pend = [11]) → ¬ zopa t n k → ZK FF (zxt t n f 3 k o) (fun k1 c1 => SGt t n PA PE FF PZ k1 w (cs ++ (pend ++ c1)) o) → SGt t n PA PE FF PZ k (pend ++ w) cs o) := by
  intro f
  induction f with
  | zero =>
    refine ⟨?_, ?_, ?_, ?_, ?_⟩
    · intro k w cs o h0 h1 h; exact absurd rfl h.1
    · intro k w cs o h0 h1 hw h; exact absurd rfl h.1
    · intro k w cs o h0 h1 hw h; exact absurd rfl h.1
    · intro k w pend cs o h0 h1 hw hp h; exact absurd rfl h.1
    · intro k w pend cs o h0 h1 hw hp hn h; exact absurd rfl h.1
  | succ f ih =>
    obtain ⟨iA, iB, iC, iD, iE⟩ := ih
    refine ⟨?_, ?_, ?_, ?_, ?_⟩
    · -- a fact
      intro k w cs o h0 h1 h
      have hs := @zsk_le k n t h1
      refine hA k w cs o h0 h1 ?_
      unfold SAt
      simp only [zxt, if_false, Int.reduceEq] at h
      by_cases g1 : zB t n (zsk t n k) = 91
      · rw [if_pos g1] at h ⊢
        have hlt := zskn (t := t) h1 (by rw [g1]; decide)
        by_cases g2 : o = 6
        · rw [if_pos g2] at h ⊢; exact h.2
        · rw [if_neg g2] at h ⊢
          refine iC (zsk t n k + 1) (25 :: w) cs (o + 1) (by omega) (by omega) ⟨by omega, by omega⟩ ?_
          have pr := (zxt_pr (t := t) (n := n) f 0 (zsk t n k + 1) (o + 1) (by omega) (by omega) (by omega) (by omega)).1
          cases e1 : zxt t n f 0 (zsk t n k + 1) (o + 1) with
          | inl x => rw [e1] at h; exact h
          | inr x =>
            obtain ⟨ka, ca⟩ := x
            have j := pr ka ca e1
            have jn := j.2.2.2.2.2.1 rfl
            rw [e1] at h
            simp only at h
            show SGt t n PA PE FF PZ ka (25 :: w) (cs ++ ca) (o + 1)
            have eb : zsq (25 :: w) = true := rfl
            have ed : zd25 (25 :: w) = ([], w) := rfl
            unfold SGt
            rw [eb, ed]
            unfold zopa zopo at jn
            by_cases g3 : zB t n (zsk t n ka) = 93
            · rw [if_pos g3] at h
              rw [if_pos ⟨g3, rfl⟩]
              have eo : o + 1 - 1 = o := by omega
              rw [eo]
              simp only [List.append_nil]
              exact h
            · rw [if_neg g3] at h
              rw [if_neg (fun q => g3 q.1), if_neg jn.1, if_neg jn.2.1, if_pos rfl]
              exact h.2
      · rw [if_neg g1] at h ⊢
        by_cases g2 : zhw t n (zsk t n k) zwnot = true
        · rw [if_pos g2] at h ⊢
          have hw : zsk t n k + 3 ≤ n := (zhw_r hs.2 g2).1
          by_cases g4 : o = 6
          · rw [if_pos g4] at h ⊢; exact h.2
          · rw [if_neg g4] at h ⊢
            refine iA (zsk t n k + 3) (12 :: w) cs (o + 1) (by omega) (by omega) ?_
            cases e1 : zxt t n f 2 (zsk t n k + 3) (o + 1) with
            | inl x => rw [e1] at h; exact h
            | inr x =>
              obtain ⟨ka, ca⟩ := x
              rw [e1] at h
              show PE ka (12 :: w) (cs ++ ca) (o + 1)
              refine hE _ _ _ _ ?_
              unfold SEt
              simp only [if_true]
              have eo : o + 1 - 1 = o := by omega
              rw [eo, List.append_assoc]; exact h
        · rw [if_neg g2] at h ⊢
          by_cases g3 : zhw t n (zsk t n k) zwall = true
          · rw [if_pos g3] at h ⊢; exact h
          · rw [if_neg g3] at h ⊢
            cases e1 : zex false t n (zF n) 0 k o with
            | inl x => rw [e1] at h; exact h.2
            | inr x =>
              obtain ⟨ka, ca⟩ := x
              rw [e1] at h
              simp only at h ⊢
              by_cases g5 : zB t n (zsk t n ka) = 60 ∨ zB t n (zsk t n ka) = 62 ∨ zB t n (zsk t n ka) = 61
              · rw [if_pos g5] at h ⊢
                cases e2 : zex false t n (zF n) 0 (zsk t n ka + 1) o with
                | inl x => rw [e2] at h; exact h.2
                | inr x => rw [e2] at h; exact h
              · rw [if_neg g5] at h ⊢; exact h.2
    · -- facts joined by and
      intro k w cs o h0 h1 hw h
      simp only [zxt, if_true, if_false, Int.reduceEq] at h
      refine iA k w cs o h0 h1 ?_
      have pr := (zxt_pr (t := t) (n := n) f 2 k o h0 h1 (by omega) (by omega)).1
      cases e1 : zxt t n f 2 k o with
      | inl x => rw [e1] at h; exact h
      | inr x =>
        obtain ⟨ka, ca⟩ := x
        have j := pr ka ca e1
        rw [e1] at h
        simp only at h
        show PE ka w (cs ++ ca) o
        have hg : PG ka ([] ++ w) (cs ++ ca) o := by
          refine iD ka w [] (cs ++ ca) o (by omega) j.2.1 hw (Or.inl rfl) ?_
          cases e2 : zxt t n f 4 ka o with
          | inl x => rw [e2] at h; exact h
          | inr x =>
            rw [e2] at h
            show SGt t n PA PE FF PZ x.1 w (cs ++ ca ++ ([] ++ x.2)) o
            rw [List.append_assoc]; exact h
        refine hE _ _ _ _ ?_
        unfold SEt
        match w, hw, hg with
        | [], _, hg => exact hg
        | v :: w, hw, hg =>
          simp only
          rw [if_neg hw.2]; exact hg
    · -- a test
      intro k w cs o h0 h1 hw h
      simp only [zxt, if_true] at h
      refine iB k w cs o h0 h1 (ntt_10 hw) ?_
      have pr := (zxt_pr (t := t) (n := n) f 1 k o h0 h1 (by omega) (by omega)).1
      cases e1 : zxt t n f 1 k o with
      | inl x => rw [e1] at h; exact h
      | inr x =>
        obtain ⟨ka, ca⟩ := x
        have j := pr ka ca e1
        rw [e1] at h
        simp only at h
        show SGt t n PA PE FF PZ ka ([] ++ w) (cs ++ ca) o
        refine iE ka w [] (cs ++ ca) o (by omega) j.2.1 hw (Or.inl rfl) (j.2.2.2.2.1 (Or.inl rfl)) ?_
        cases e2 : zxt t n f 3 ka o with
        | inl x => rw [e2] at h; exact h
        | inr x =>
          rw [e2] at h
          show SGt t n PA PE FF PZ x.1 w (cs ++ ca ++ ([] ++ x.2)) o
          rw [List.append_assoc]; exact h
    · -- what follows a fact
      intro k w pend cs o h0 h1 hw hp h
      have hs := @zsk_le k n t h1
      simp only [zxt, if_true, if_false, Int.reduceEq] at h
      refine hG _ _ _ _ h0 h1 ?_
      cases gl : zlp t n (zsk t n k)
      rotate_left
      · rw [gl, if_pos rfl] at h
        exact SGt_lp hz h0 h1 gl h.2
      rw [gl, if_neg (by decide)] at h
      by_cases g1 : zhw t n (zsk t n k) zwand = true
      · rw [if_pos g1] at h
        have hw3 : zsk t n k + 3 ≤ n := (zhw_r hs.2 g1).1
        have hd : zdn 10 (pend ++ w) = (pend, w) := by
          rcases hp with e | e
          · rw [e]; exact zdn_n hw
          · rw [e]; exact zdn_p hw (by decide) (by decide)
        unfold SGt
        rw [if_neg (fun q => (zhw_93 g1).1 q.1), if_pos g1, hd]
        simp only
        refine iA (zsk t n k + 3) (10 :: w) (cs ++ pend) o (by omega) (by omega) ?_
        have pr := (zxt_pr (t := t) (n := n) f 2 (zsk t n k + 3) o (by omega) (by omega) (by omega) (by omega)).1
        cases e1 : zxt t n f 2 (zsk t n k + 3) o with
        | inl x => rw [e1] at h; exact h
        | inr x =>
          obtain ⟨ka, ca⟩ := x
          have j := pr ka ca e1
          rw [e1] at h
          simp only at h
          show PE ka (10 :: w) (cs ++ pend ++ ca) o
          refine hE _ _ _ _ ?_
          unfold SEt
          simp only
          rw [if_neg (by decide)]
          refine iD ka w [10] (cs ++ pend ++ ca) o (by omega) j.2.1 hw (Or.inr rfl) ?_
          cases e2 : zxt t n f 4 ka o with
          | inl x => rw [e2] at h; exact h
          | inr x =>
            rw [e2] at h
            show SGt t n PA PE FF PZ x.1 w (cs ++ pend ++ ca ++ ([10] ++ x.2)) o
            simp only [List.append_assoc, List.cons_append, List.nil_append]; exact h
      · rw [if_neg g1] at h
        have h : SGt t n PA PE FF PZ (zsk t n k) w (cs ++ (pend ++ [])) o := h
        rw [List.append_nil] at h
        have h := SGt_s h0 h1 h
        rcases hp with e | e
        · subst e; rw [List.append_nil] at h; exact h
        · subst e; exact SGt_p (Or.inl rfl) g1 (Or.inl rfl) h
    · -- what follows in a test
      intro k w pend cs o h0 h1 hw hp hn h
      have hs := @zsk_le k n t h1
      simp only [zxt, if_true, if_false, Int.reduceEq] at h
      cases gl : zlp t n (zsk t n k)
      rotate_left
      · rw [gl, if_pos rfl] at h
        exact SGt_lp hz h0 h1 gl h.2
      rw [gl, if_neg (by decide)] at h
      by_cases g1 : zhw t n (zsk t n k) zwor = true
      · rw [if_pos g1] at h
        have hw3 : zsk t n k + 2 ≤ n := (zhw_r hs.2 g1).1
        have hd : zdn 11 (pend ++ w) = (pend, w) := by
          rcases hp with e | e
          · rw [e]; exact zdn_n hw
          · rw [e]; exact zdn_p hw (by decide) (by decide)
        unfold SGt
        unfold zopa at hn
        rw [if_neg (fun q => (zhw_93 g1).1 q.1), if_neg hn, if_pos g1, hd]
        simp only
        refine iB (zsk t n k + 2) (11 :: w) (cs ++ pend) o (by omega) (by omega) ⟨by omega, by omega⟩ ?_
        have pr := (zxt_pr (t := t) (n := n) f 1 (zsk t n k + 2) o (by omega) (by omega) (by omega) (by omega)).1
        cases e1 : zxt t n f 1 (zsk t n k + 2) o with
        | inl x => rw [e1] at h; exact h
        | inr x =>
          obtain ⟨ka, ca⟩ := x
          have j := pr ka ca e1
          rw [e1] at h
          simp only at h
          show SGt t n PA PE FF PZ ka ([11] ++ w) (cs ++ pend ++ ca) o
          refine iE ka w [11] (cs ++ pend ++ ca) o (by omega) j.2.1 hw (Or.inr rfl) (j.2.2.2.2.1 (Or.inl rfl)) ?_
          cases e2 : zxt t n f 3 ka o with
          | inl x => rw [e2] at h; exact h
          | inr x =>
            rw [e2] at h
            show SGt t n PA PE FF PZ x.1 w (cs ++ pend ++ ca ++ ([11] ++ x.2)) o
            simp only [List.append_assoc, List.cons_append, List.nil_append]; exact h
      · rw [if_neg g1] at h
        have h : SGt t n PA PE FF PZ (zsk t n k) w (cs ++ (pend ++ [])) o := h
        rw [List.append_nil] at h
        have h := SGt_s h0 h1 h
        rcases hp with e | e
        · subst e; rw [List.append_nil] at h; exact h
        · subst e; exact SGt_p (Or.inr rfl) hn (Or.inr g1) h
end TSIM
