/-! ===== a pile of what waits tells the same codes ===== -/
def ZK (FF : Int → Int → Prop) (r : (Int × Int) ⊕ (Int × List Int)) (P : Int → List Int → Prop) : Prop := match r with
  | .inl e => e.1 ≠ 99 ∧ FF e.1 e.2
  | .inr q => P q.1 q.2
def ntp (m : Int) (w : List Int) : Prop := match w with
  | [] => True
  | v :: _ => ¬ (m ≤ v ∧ v ≤ 4) ∧ v < 60
section SIM
variable {hm : Bool} {t : Int → Int} {n k o : Int} {PA PE PG : Int → List Int → List Int → Int → Prop} {FF : Int → Int → Prop} {PZ : Int → List Int → Int → Prop} {w cs pend : List Int}
theorem ntp_13 (h : ntp 1 w) : ntp 3 w := by
  match w, h with
  | [], _ => trivial
  | v :: _, h => exact ⟨fun q => h.1 (by omega), h.2⟩
theorem zdr_n {m : Int} (h : ntp m w) : zdr m w = ([], w) := by
  match w, h with
  | [], _ => rfl
  | v :: _, h => simp only [zdr]; rw [if_neg h.1]
theorem zdr_p {m op : Int} (h : ntp m w) (h1 : m ≤ op) (h2 : op ≤ 4) : zdr m (op :: w) = ([op], w) := by
  simp only [zdr]; rw [if_pos ⟨h1, h2⟩, zdr_n h]
theorem zdb_p {op : Int} (h1 : 1 ≤ op) (h2 : op ≤ 4) : zdb (op :: w) = (op :: (zdb w).1, (zdb w).2) ∧ zbr (op :: w) = zbr w := by
  have e : zdb (op :: w) = (op :: (zdb w).1, (zdb w).2) := by
    have : zib op = false := decide_eq_false (by omega)
    simp only [zdb]; rw [this, if_neg (by decide)]
  refine ⟨e, ?_⟩
  unfold zbr; rw [e]
theorem zdr_1 {op : Int} (h1 : 1 ≤ op) (h2 : op ≤ 4) : zdr 1 (op :: w) = (op :: (zdr 1 w).1, (zdr 1 w).2) := by
  simp only [zdr]; rw [if_pos ⟨h1, h2⟩]
theorem SG_34 {op : Int} (hn : ¬ zop34 t n k) (h1 : 1 ≤ op) (h2 : op ≤ 4) (hn2 : 3 ≤ op ∨ ¬ zop12 t n k) (h : SG t n PA PE FF PZ k w (cs ++ [op]) o) : SG t n PA PE FF PZ k (op :: w) cs o := by
  unfold SG at h ⊢
  rw [(zdb_p (w := w) h1 h2).2, (zdb_p (w := w) h1 h2).1, zdr_1 h1 h2]
  unfold zop34 at hn
  rw [if_neg hn] at h ⊢
  simp only [List.append_assoc, List.cons_append, List.nil_append] at h ⊢
  exact h
theorem SG_s (h0 : 0 ≤ k) (h1 : k ≤ n) (h : SG t n PA PE FF PZ (zsk t n k) w cs o) : SG t n PA PE FF PZ k w cs o := by
  unfold SG at h ⊢; rw [zsk_zsk h0 h1] at h; exact h
theorem zsim (hA : ∀ k w cs o, 0 ≤ k → k ≤ n → SA hm t n PA PE FF k w cs o → PA k w cs o) (hE : ∀ k w cs o, SE PE PG k w cs o → PE k w cs o) (hG : ∀ k w cs o, 0 ≤ k → k ≤ n → SG t n PA PE FF PZ k w cs o → PG k w cs o) : ∀ (f : Nat),
    (∀ k w cs o, 0 ≤ k → k ≤ n → ZK FF (zex hm t n f 2 k o) (fun k1 c1 => PE k1 w (cs ++ c1) o) → PA k w cs o)
    ∧ (∀ k w cs o, 0 ≤ k → k ≤ n → ntp 3 w → ZK FF (zex hm t n f 1 k o) (fun k1 c1 => SG t n PA PE FF PZ k1 w (cs ++ c1) o) → PA k w cs o)
    ∧ (∀ k w cs o, 0 ≤ k → k ≤ n → ntp 1 w → ZK FF (zex hm t n f 0 k o) (fun k1 c1 => SG t n PA PE FF PZ k1 w (cs ++ c1) o) → PA k w cs o)
    ∧ (∀ k w pend cs o, 0 ≤ k → k ≤ n → ntp 3 w → (pend = [] ∨ ∃ op, pend = [op] ∧ 3 ≤ op ∧ op ≤ 4) → ZK FF (zex hm t n f 4 k o) (fun k1 c1 => SG t n PA PE FF PZ k1 w (cs ++ (pend ++ c1)) o) → PG k (pend ++ w) cs o)
    ∧ (∀ k w pend cs o, 0 ≤ k → k ≤ n → ntp 1 w → (pend = [] ∨ ∃ op, pend = [op] ∧ 1 ≤ op ∧ op ≤ 2) → ¬ zop34 t n k → ZK FF (zex hm t n f 3 k o) (fun k1 c1 => SG t n PA PE FF PZ k1 w (cs ++ (pend ++ c1)) o) → SG t n PA PE FF PZ k (pend ++ w) cs o) := by
  intro f
  induction f with
  | zero =>
    refine ⟨?_, ?_, ?_, ?_, ?_⟩
    · intro k w cs o h0 h1 h; exact absurd rfl h.1
    · intro k w cs o h0 h1 hw h; exact absurd rfl h.1
    · intro k w cs o h0 h1 hw h; exact absurd rfl h.1
    · intro k w pend cs o h0 h1 hw hp h; exact absurd rfl h.1
    · intro k w pend cs o h0 h1 hw hp hn h; exact absurd rfl h.1
  | succ f ih =>
    obtain ⟨iA, iB, iC, iD, iE⟩ := ih
    refine ⟨?_, ?_, ?_, ?_, ?_⟩
    · -- an atom
      intro k w cs o h0 h1 h
      have hs := @zsk_le k n t h1
      refine hA k w cs o h0 h1 ?_
      unfold SA
      simp only [zex, if_false, Int.reduceEq] at h
      by_cases g1 : zB t n (zsk t n k) = 40
      · rw [if_pos g1] at h ⊢
        have hlt := zskn (t := t) h1 (by rw [g1]; decide)
        by_cases g2 : o = 6
        · rw [if_pos g2] at h ⊢; exact h.2
        · rw [if_neg g2] at h ⊢
          refine iC (zsk t n k + 1) (20 :: w) cs (o + 1) (by omega) (by omega) ⟨by omega, by omega⟩ ?_
          have pr := (zex_pr (hm := hm) (t := t) (n := n) f 0 (zsk t n k + 1) (o + 1) (by omega) (by omega) (by omega) (by omega)).1
          cases e1 : zex hm t n f 0 (zsk t n k + 1) (o + 1) with
          | inl x => rw [e1] at h; exact h
          | inr x =>
            obtain ⟨ka, ca⟩ := x
            have j := pr ka ca e1
            have jn := j.2.2.2.2.2.1 rfl
            rw [e1] at h
            simp only at h
            show SG t n PA PE FF PZ ka (20 :: w) (cs ++ ca) (o + 1)
            have eb : zbr (20 :: w) = 20 := rfl
            have ed : zdb (20 :: w) = ([], 20 :: w) := rfl
            unfold SG
            rw [eb, ed]
            unfold zop34 zop12 at jn
            by_cases g3 : zB t n (zsk t n ka) = 41
            · rw [if_pos g3] at h
              rw [if_pos ⟨g3, Or.inl rfl⟩, if_pos rfl]
              have eo : o + 1 - 1 = o := by omega
              rw [eo]
              simp only [List.append_nil, List.tail_cons]
              exact h
            · rw [if_neg g3] at h
              rw [if_neg (fun q => g3 q.1), if_neg jn.1, if_neg jn.2, if_neg (by decide), if_pos (by decide)]
              exact h.2
      · rw [if_neg g1] at h ⊢
        by_cases g2 : zhw t n (zsk t n k) zmin = true ∨ zhw t n (zsk t n k) zmax = true
        · rw [if_pos g2] at h ⊢
          have hw : zsk t n k + 3 ≤ n := by
            rcases g2 with q | q
            · exact (zhw_r hs.2 q).1
            · exact (zhw_r hs.2 q).1
          have hs3 := @zsk_le (zsk t n k + 3) n t hw
          by_cases g3 : zB t n (zsk t n (zsk t n k + 3)) = 40
          · rw [if_pos g3] at h ⊢
            have hlt := zskn hw (by rw [g3]; decide)
            by_cases g4 : o = 6
            · rw [if_pos g4] at h ⊢; exact h.2
            · rw [if_neg g4] at h ⊢
              generalize eq : zsk t n (zsk t n k + 3) = q at *
              have hbr : ∃ B : Int, (if zhw t n (zsk t n k) zmin = true then (21 : Int) else 22) = B ∧ (B = 21 ∨ B = 22) ∧ (if zhw t n (zsk t n k) zmin = true then (5 : Int) else 6) = B - 16 := by
                by_cases z : zhw t n (zsk t n k) zmin = true
                · exact ⟨21, by rw [if_pos z], Or.inl rfl, by rw [if_pos z]; rfl⟩
                · exact ⟨22, by rw [if_neg z], Or.inr rfl, by rw [if_neg z]; rfl⟩
              obtain ⟨B, eB, hB, eB2⟩ := hbr
              rw [eB]
              rw [eB2] at h
              refine iC (q + 1) (B :: w) cs (o + 1) (by omega) (by omega) ⟨by omega, by omega⟩ ?_
              have pr := (zex_pr (hm := hm) (t := t) (n := n) f 0 (q + 1) (o + 1) (by omega) (by omega) (by omega) (by omega)).1
              cases e1 : zex hm t n f 0 (q + 1) (o + 1) with
              | inl x => rw [e1] at h; exact h
              | inr x =>
                obtain ⟨ka, ca⟩ := x
                have j := pr ka ca e1
                have jn := j.2.2.2.2.2.1 rfl
                have hs1 := @zsk_le ka n t j.2.1
                rw [e1] at h
                simp only at h
                show SG t n PA PE FF PZ ka (B :: w) (cs ++ ca) (o + 1)
                have eib : zib B = true := decide_eq_true (by omega)
                have ed : zdb (B :: w) = ([], B :: w) := by simp only [zdb]; rw [if_pos eib]
                have eb : zbr (B :: w) = B := by unfold zbr; rw [ed]
                unfold SG
                rw [eb, ed]
                unfold zop34 zop12 at jn
                rw [if_neg (fun q => by omega), if_neg jn.1, if_neg jn.2, if_pos hB]
                by_cases g5 : zB t n (zsk t n ka) = 44
                · rw [if_pos g5] at h ⊢
                  have hlt1 := zskn j.2.1 (by rw [g5]; decide)
                  simp only [List.append_nil, List.tail_cons]
                  refine iC (zsk t n ka + 1) ((B + 2) :: w) (cs ++ ca) (o + 1) (by omega) (by omega) ⟨by omega, by omega⟩ ?_
                  have pr2 := (zex_pr (hm := hm) (t := t) (n := n) f 0 (zsk t n ka + 1) (o + 1) (by omega) (by omega) (by omega) (by omega)).1
                  cases e2 : zex hm t n f 0 (zsk t n ka + 1) (o + 1) with
                  | inl x => rw [e2] at h; exact h
                  | inr x =>
                    obtain ⟨kb, cb⟩ := x
                    have j2 := pr2 kb cb e2
                    have jn2 := j2.2.2.2.2.2.1 rfl
                    rw [e2] at h
                    simp only at h
                    show SG t n PA PE FF PZ kb ((B + 2) :: w) (cs ++ ca ++ cb) (o + 1)
                    have eib2 : zib (B + 2) = true := decide_eq_true (by omega)
                    have ed2 : zdb ((B + 2) :: w) = ([], (B + 2) :: w) := by simp only [zdb]; rw [if_pos eib2]
                    have eb2 : zbr ((B + 2) :: w) = B + 2 := by unfold zbr; rw [ed2]
                    unfold SG
                    rw [eb2, ed2]
                    unfold zop34 zop12 at jn2
                    by_cases g6 : zB t n (zsk t n kb) = 41
                    · rw [if_pos g6] at h
                      rw [if_pos ⟨g6, by omega⟩, if_neg (by omega)]
                      have eo : o + 1 - 1 = o := by omega
                      have eb5 : B + 2 - 18 = B - 16 := by omega
                      rw [eo, eb5]
                      simp only [List.nil_append, List.tail_cons, List.append_assoc]
                      exact h
                    · rw [if_neg g6] at h
                      rw [if_neg (fun q => g6 q.1), if_neg jn2.1, if_neg jn2.2, if_neg (by omega), if_pos (by omega)]
                      exact h.2
                · rw [if_neg g5] at h ⊢
                  exact h.2
          · rw [if_neg g3] at h ⊢; exact h.2
        · rw [if_neg g2] at h ⊢
          by_cases g3 : zqw hm t n (zsk t n k) = 11
          · rw [if_pos g3] at h ⊢
            have hq := @zqw_r hm t n (zsk t n k) hs.2 (by omega)
            have h3 : zln (zqw hm t n (zsk t n k)) = 3 := by rw [g3]; rfl
            by_cases g4 : o = 6
            · rw [if_pos g4] at h ⊢; exact h.2
            · rw [if_neg g4] at h ⊢
              refine iA (zsk t n k + 3) (60 :: w) cs (o + 1) (by omega) (by omega) ?_
              cases e1 : zex hm t n f 2 (zsk t n k + 3) (o + 1) with
              | inl x => rw [e1] at h; exact h
              | inr x =>
                obtain ⟨ka, ca⟩ := x
                rw [e1] at h
                show PE ka (60 :: w) (cs ++ ca) (o + 1)
                refine hE _ _ _ _ ?_
                unfold SE
                simp only
                rw [if_pos (by decide)]
                have eo : o + 1 - 1 = o := by omega
                rw [eo, List.append_assoc]; exact h
          · rw [if_neg g3] at h ⊢
            by_cases g4 : 0 ≤ zqw hm t n (zsk t n k) ∧ zal hm (zqw hm t n (zsk t n k)) = true
            · rw [if_pos g4] at h ⊢; exact h
            · rw [if_neg g4] at h ⊢
              cases e1 : znum t n k 0 9999 with
              | inl x => rw [e1] at h; exact h.2
              | inr x => rw [e1] at h; exact h
    · -- a product
      intro k w cs o h0 h1 hw h
      simp only [zex, if_true, if_false, Int.reduceEq] at h
      refine iA k w cs o h0 h1 ?_
      have pr := (zex_pr (hm := hm) (t := t) (n := n) f 2 k o h0 h1 (by omega) (by omega)).1
      cases e1 : zex hm t n f 2 k o with
      | inl x => rw [e1] at h; exact h
      | inr x =>
        obtain ⟨ka, ca⟩ := x
        have j := pr ka ca e1
        rw [e1] at h
        simp only at h
        show PE ka w (cs ++ ca) o
        have hg : PG ka ([] ++ w) (cs ++ ca) o := by
          refine iD ka w [] (cs ++ ca) o (by omega) j.2.1 hw (Or.inl rfl) ?_
          cases e2 : zex hm t n f 4 ka o with
          | inl x => rw [e2] at h; exact h
          | inr x =>
            rw [e2] at h
            show SG t n PA PE FF PZ x.1 w (cs ++ ca ++ ([] ++ x.2)) o
            rw [List.append_assoc]; exact h
        refine hE _ _ _ _ ?_
        unfold SE
        match w, hw, hg with
        | [], _, hg => exact hg
        | v :: w, hw, hg =>
          simp only
          rw [if_neg (by have := hw.2; omega)]; exact hg
    · -- a sum
      intro k w cs o h0 h1 hw h
      simp only [zex, if_true] at h
      refine iB k w cs o h0 h1 (ntp_13 hw) ?_
      have pr := (zex_pr (hm := hm) (t := t) (n := n) f 1 k o h0 h1 (by omega) (by omega)).1
      cases e1 : zex hm t n f 1 k o with
      | inl x => rw [e1] at h; exact h
      | inr x =>
        obtain ⟨ka, ca⟩ := x
        have j := pr ka ca e1
        rw [e1] at h
        simp only at h
        show SG t n PA PE FF PZ ka ([] ++ w) (cs ++ ca) o
        refine iE ka w [] (cs ++ ca) o (by omega) j.2.1 hw (Or.inl rfl) (j.2.2.2.2.1 (Or.inl rfl)) ?_
        cases e2 : zex hm t n f 3 ka o with
        | inl x => rw [e2] at h; exact h
        | inr x =>
          rw [e2] at h
          show SG t n PA PE FF PZ x.1 w (cs ++ ca ++ ([] ++ x.2)) o
          rw [List.append_assoc]; exact h
    · -- what follows in a product
      intro k w pend cs o h0 h1 hw hp h
      have hs := @zsk_le k n t h1
      simp only [zex, if_true, if_false, Int.reduceEq] at h
      refine hG _ _ _ _ h0 h1 ?_
      by_cases g1 : zB t n (zsk t n k) = 42 ∨ zB t n (zsk t n k) = 47
      · rw [if_pos g1] at h
        have hlt := zskn (t := t) h1 (by omega)
        have hd : zdr 3 (pend ++ w) = (pend, w) := by
          rcases hp with e | ⟨op, e, a, b⟩
          · rw [e]; exact zdr_n hw
          · rw [e]; exact zdr_p hw a b
        unfold SG
        rw [if_neg (fun q => by omega), if_pos g1, hd]
        simp only
        generalize eop : (if zB t n (zsk t n k) = 42 then (3 : Int) else 4) = op at *
        have hop : 3 ≤ op ∧ op ≤ 4 := by rw [← eop]; split <;> omega
        refine iA (zsk t n k + 1) (op :: w) (cs ++ pend) o (by omega) (by omega) ?_
        have pr := (zex_pr (hm := hm) (t := t) (n := n) f 2 (zsk t n k + 1) o (by omega) (by omega) (by omega) (by omega)).1
        cases e1 : zex hm t n f 2 (zsk t n k + 1) o with
        | inl x => rw [e1] at h; exact h
        | inr x =>
          obtain ⟨ka, ca⟩ := x
          have j := pr ka ca e1
          rw [e1] at h
          simp only at h
          show PE ka (op :: w) (cs ++ pend ++ ca) o
          refine hE _ _ _ _ ?_
          unfold SE
          simp only
          rw [if_neg (by omega)]
          refine iD ka w [op] (cs ++ pend ++ ca) o (by omega) j.2.1 hw (Or.inr ⟨op, rfl, hop.1, hop.2⟩) ?_
          cases e2 : zex hm t n f 4 ka o with
          | inl x => rw [e2] at h; exact h
          | inr x =>
            rw [e2] at h
            show SG t n PA PE FF PZ x.1 w (cs ++ pend ++ ca ++ ([op] ++ x.2)) o
            simp only [List.append_assoc, List.cons_append, List.nil_append]; exact h
      · rw [if_neg g1] at h
        have h : SG t n PA PE FF PZ (zsk t n k) w (cs ++ (pend ++ [])) o := h
        rw [List.append_nil] at h
        have h := SG_s h0 h1 h
        rcases hp with e | ⟨op, e, a, b⟩
        · subst e; rw [List.append_nil] at h; exact h
        · subst e; exact SG_34 g1 (by omega) b (Or.inl a) h
    · -- what follows in a sum
      intro k w pend cs o h0 h1 hw hp hn h
      have hs := @zsk_le k n t h1
      simp only [zex, if_true, if_false, Int.reduceEq] at h
      by_cases g1 : zB t n (zsk t n k) = 43 ∨ zB t n (zsk t n k) = 45
      · rw [if_pos g1] at h
        have hlt := zskn (t := t) h1 (by omega)
        have hd : zdr 1 (pend ++ w) = (pend, w) := by
          rcases hp with e | ⟨op, e, a, b⟩
          · rw [e]; exact zdr_n hw
          · rw [e]; exact zdr_p hw a (by omega)
        unfold SG
        unfold zop34 at hn
        rw [if_neg (fun q => by omega), if_neg hn, if_pos g1, hd]
        simp only
        generalize eop : (if zB t n (zsk t n k) = 43 then (1 : Int) else 2) = op at *
        have hop : 1 ≤ op ∧ op ≤ 2 := by rw [← eop]; split <;> omega
        refine iB (zsk t n k + 1) (op :: w) (cs ++ pend) o (by omega) (by omega) ⟨by omega, by omega⟩ ?_
        have pr := (zex_pr (hm := hm) (t := t) (n := n) f 1 (zsk t n k + 1) o (by omega) (by omega) (by omega) (by omega)).1
        cases e1 : zex hm t n f 1 (zsk t n k + 1) o with
        | inl x => rw [e1] at h; exact h
        | inr x =>
          obtain ⟨ka, ca⟩ := x
          have j := pr ka ca e1
          rw [e1] at h
          simp only at h
          show SG t n PA PE FF PZ ka ([op] ++ w) (cs ++ pend ++ ca) o
          refine iE ka w [op] (cs ++ pend ++ ca) o (by omega) j.2.1 hw (Or.inr ⟨op, rfl, hop.1, hop.2⟩) (j.2.2.2.2.1 (Or.inl rfl)) ?_
          cases e2 : zex hm t n f 3 ka o with
          | inl x => rw [e2] at h; exact h
          | inr x =>
            rw [e2] at h
            show SG t n PA PE FF PZ x.1 w (cs ++ pend ++ ca ++ ([op] ++ x.2)) o
            simp only [List.append_assoc, List.cons_append, List.nil_append]; exact h
      · rw [if_neg g1] at h
        have h : SG t n PA PE FF PZ (zsk t n k) w (cs ++ (pend ++ [])) o := h
        rw [List.append_nil] at h
        have h := SG_s h0 h1 h
        rcases hp with e | ⟨op, e, a, b⟩
        · subst e; rw [List.append_nil] at h; exact h
        · subst e; exact SG_34 hn a (by omega) (Or.inr g1) h
end SIM
