/-! ===== a row of what is, by itself ===== -/
/-- some heap of M tells T and nw: then all that was shown of them holds -/
def NX (T : Int → Int → Int) (nw : Int → Int) : Prop := ∃ h0, MG T nw h0
section X7
variable {W : Int → Int → Prop} {d : Nat} {h h' h0 : AH} {Q : QQ} {x y z m k s l w a b c v n p r o i f : Int} {S T T' : Int → Int → Int} {t nw nw' : Int → Int}
set_option maxHeartbeats 4000000
theorem NX_N (hX : NX T nw) : NV T nw := by obtain ⟨h0, hG⟩ := hX; exact hG.2.2.2.2
theorem NX_T (hX : NX T nw) : TV T := by obtain ⟨h0, hG⟩ := hX; exact hG.2.2.2.1
theorem NX_of (hX : NX T nw) (hN : NV T nw') : NX T nw' := by
  obtain ⟨h0, hG⟩ := hX
  have hO : Off (fun r _ => r = 1083) h0 (ah_row h0 1083 nw') := ⟨rfl, fun r i w => by unfold ah_m ah_row; simp only; rw [if_neg w]⟩
  refine ⟨ah_row h0 1083 nw', MI_off hG.1 hO (fun r i w => by unfold fre; omega), ?_, ?_, hG.2.2.2.1, hN⟩
  · rw [stt_off hO (fun r i w g => by omega)]; exact hG.2.1
  · funext i; unfold ah_m ah_row; simp
theorem NX_do (hX : NX T nw) (h1 : 0 ≤ m) (h2 : m < T 1072 4) (hk : 0 ≤ k) (hk2 : k < zP T) : NX T (zdo T nw m k) := by
  obtain ⟨h0, hG⟩ := hX
  exact NX_of ⟨h0, hG⟩ (NV_do hG h1 h2 hk hk2)
/-- who stands on a place -/
theorem zat_i (hX : NX T nw) (h1 : 0 ≤ m) (h2 : m < T 1072 4) (h3 : nw (2 + 2 * m) ≠ -1) : zat T nw (nw (2 + 2 * m)) (nw (3 + 2 * m)) = m := by
  obtain ⟨h0, hG⟩ := hX
  have hb := @zat_b h0 (nw (2 + 2 * m)) (nw (3 + 2 * m)) T nw hG
  by_cases g : zat T nw (nw (2 + 2 * m)) (nw (3 + 2 * m)) = -1
  · exact absurd ⟨rfl, rfl⟩ (zat_no hG g h1 h2)
  · have ha := zat_at g
    by_cases e : zat T nw (nw (2 + 2 * m)) (nw (3 + 2 * m)) = m
    · exact e
    · have := hG.2.2.2.2.2.2.1 m (zat T nw (nw (2 + 2 * m)) (nw (3 + 2 * m))) h1 h2 (by omega) (by omega) (fun q => e q.symm) h3
      exact absurd ⟨ha.1.symm, ha.2.symm⟩ this
theorem zdo_m (h1 : 0 ≤ m) : zdo T nw m k (2 + 2 * m) = k % T 1074 4 ∧ zdo T nw m k (3 + 2 * m) = k / T 1074 4 := by
  unfold zdo
  refine ⟨?_, ?_⟩
  · rw [if_neg (by omega), if_neg (by omega), if_pos rfl]
  · rw [if_neg (by omega), if_pos rfl]
theorem zdo_q (h1 : 0 ≤ m) (hq : zat T nw (k % T 1074 4) (k / T 1074 4) ≠ -1) (hm : zat T nw (k % T 1074 4) (k / T 1074 4) ≠ m) (h0 : 0 ≤ zat T nw (k % T 1074 4) (k / T 1074 4)) : zdo T nw m k (2 + 2 * zat T nw (k % T 1074 4) (k / T 1074 4)) = -1 ∧ zdo T nw m k (3 + 2 * zat T nw (k % T 1074 4) (k / T 1074 4)) = -1 := by
  unfold zdo
  refine ⟨?_, ?_⟩
  · rw [if_neg (by omega), if_neg (by omega), if_neg (by omega), if_pos ⟨hq, Or.inl rfl⟩]
  · rw [if_neg (by omega), if_neg (by omega), if_neg (by omega), if_pos ⟨hq, Or.inr rfl⟩]
theorem zdo_o {j : Int} (h1 : 0 ≤ m) (hj : 0 ≤ j) (hm : j ≠ m) (hq : j ≠ zat T nw (k % T 1074 4) (k / T 1074 4)) : zdo T nw m k (2 + 2 * j) = nw (2 + 2 * j) ∧ zdo T nw m k (3 + 2 * j) = nw (3 + 2 * j) := by
  unfold zdo
  refine ⟨?_, ?_⟩
  · rw [if_neg (by omega), if_neg (by omega), if_neg (by omega), if_neg (by omega)]
  · rw [if_neg (by omega), if_neg (by omega), if_neg (by omega), if_neg (by omega)]
theorem zdo_r (hX : NX T nw) (h1 : 0 ≤ m) (h2 : m < T 1072 4) (hi : i = 0 ∨ 18 ≤ i) : zdo T nw m k i = nw i := by
  obtain ⟨h0, hG⟩ := hX
  have n8 := hG.2.2.2.1.2.1
  have hb := @zat_b h0 (k % T 1074 4) (k / T 1074 4) T nw hG
  unfold zdo
  rw [if_neg (by omega), if_neg (by omega), if_neg (by omega), if_neg (by omega)]
theorem zat_do (hX : NX T nw) (h1 : 0 ≤ m) (h2 : m < T 1072 4) (h3 : nw (2 + 2 * m) ≠ -1) (hk : 0 ≤ k) (hk2 : k < zP T) (ha : 0 ≤ a) : zat T (zdo T nw m k) a b = if a = k % T 1074 4 ∧ b = k / T 1074 4 then m else if a = nw (2 + 2 * m) ∧ b = nw (3 + 2 * m) then -1 else zat T nw a b := by
  have hD := NX_do hX h1 h2 hk hk2
  have em := @zdo_m m k T nw h1
  obtain ⟨h0, hG⟩ := id hX
  obtain ⟨h9, hG9⟩ := id hD
  have hkk := zkk hG hk hk2
  have hbq := @zat_b h0 (k % T 1074 4) (k / T 1074 4) T nw hG
  have hat := @zat_at (k % T 1074 4) (k / T 1074 4) T nw
  by_cases g1 : a = k % T 1074 4 ∧ b = k / T 1074 4
  · rw [if_pos g1, g1.1, g1.2]
    have := zat_i hD h1 h2 (by rw [em.1]; omega)
    rw [em.1, em.2] at this; exact this
  rw [if_neg g1]
  have hb9 := @zat_b h9 a b T (zdo T nw m k) hG9
  have sp : zat T (zdo T nw m k) a b ≠ -1 → zat T (zdo T nw m k) a b ≠ m ∧ nw (2 + 2 * zat T (zdo T nw m k) a b) = a ∧ nw (3 + 2 * zat T (zdo T nw m k) a b) = b := by
    intro g
    have ht := zat_at g
    have nm : zat T (zdo T nw m k) a b ≠ m := fun q => by rw [q, em.1, em.2] at ht; exact g1 ⟨ht.1.symm, ht.2.symm⟩
    by_cases g2 : zat T (zdo T nw m k) a b = zat T nw (k % T 1074 4) (k / T 1074 4)
    · have := zdo_q (T := T) (nw := nw) (k := k) h1 (by omega) (by omega) (by omega)
      rw [← g2, ht.1] at this; omega
    · have := zdo_o (T := T) (nw := nw) (k := k) h1 (by omega) nm g2
      rw [ht.1, ht.2] at this
      exact ⟨nm, this.1.symm, this.2.symm⟩
  by_cases g2 : a = nw (2 + 2 * m) ∧ b = nw (3 + 2 * m)
  · rw [if_pos g2]
    by_cases g : zat T (zdo T nw m k) a b = -1
    · exact g
    · have q := sp g
      have := hG.2.2.2.2.2.2.1 m _ h1 h2 (by omega) (by omega) (fun e => q.1 e.symm) h3
      exact absurd ⟨by rw [q.2.1]; exact g2.1.symm, by rw [q.2.2]; exact g2.2.symm⟩ this
  rw [if_neg g2]
  have hb0 := @zat_b h0 a b T nw hG
  by_cases g3 : zat T nw a b = -1
  · rw [g3]
    by_cases g : zat T (zdo T nw m k) a b = -1
    · exact g
    · have q := sp g
      exact absurd q.2 (zat_no hG g3 (by omega) (by omega))
  · have ht := zat_at g3
    have nm : zat T nw a b ≠ m := fun q => by rw [q] at ht; exact g2 ⟨ht.1.symm, ht.2.symm⟩
    have nq : zat T nw a b ≠ zat T nw (k % T 1074 4) (k / T 1074 4) := fun q => by
      have := hat (by rw [← q]; exact g3)
      rw [← q, ht.1, ht.2] at this; exact g1 this
    have e := zdo_o (T := T) (nw := nw) (k := k) h1 (by omega) nm nq
    have := zat_i hD (m := zat T nw a b) (by omega) (by omega) (by rw [e.1, ht.1]; omega)
    rw [e.1, e.2, ht.1, ht.2] at this
    exact this
end X7
