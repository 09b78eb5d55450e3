/-! ===== Reader.job: the operations ===== -/
section XRj
variable {h : zH} {r s V n N : Nat} {t : Nat → Int}
theorem tjH_add {k : Nat} {f : Nat → Int} {o : Nat → Int × Int × Int} {q p : Int} {m u g : Int} (e : r < N) : lH (N + 2) ((k : Int) + 1) (k + 1) (fun i => if i = k then N + 6 + k else N + 6 + i) (zup (zup (tjC h N r s f k o q) (N + 6 + k) (aI 3 (row3 m u g))) r (oRd s p)) = tjH h N r s f (k + 1) (fun i => if i = k then (m, u, g) else o i) p := by
  unfold tjH
  rw [lH_congr (f' := fun i => N + 6 + i) (fun i hi => by split <;> omega)]
  congr 1
  funext x
  unfold tjC
  by_cases c : x = r
  · subst c; rw [zup_at, if_pos rfl]
  · rw [zup_ne c, if_neg c]
    by_cases c1 : x = N + 6 + k
    · subst c1
      rw [zup_at, if_neg (by omega), if_neg (by omega), if_pos ⟨by omega, by omega⟩, show N + 6 + k - (N + 6) = k by omega]
      simp
    · rw [zup_ne c1, if_neg c]
      by_cases c2 : x = N
      · rw [if_pos c2, if_pos c2]
      · rw [if_neg c2, if_neg c2]
        by_cases c3 : x = N + 1
        · rw [if_pos c3, if_pos c3]
        · rw [if_neg c3, if_neg c3]
          by_cases c4 : N + 6 ≤ x ∧ x < N + 6 + k
          · rw [if_pos c4, if_pos ⟨by omega, by omega⟩]
            dsimp only
            rw [if_neg (by omega)]
          · rw [if_neg c4, if_neg (by omega)]
theorem tjH_up {k : Nat} {f : Nat → Int} {o : Nat → Int × Int × Int} {q p : Int} {c : zC} (e : r < N) : zup (zup (tjH h N r s f k o q) (N + 6 + k) c) r (oRd s p) = lH (N + 2) (k : Int) k (fun i => N + 6 + i) (zup (zup (tjC h N r s f k o q) (N + 6 + k) c) r (oRd s p)) := by
  unfold tjH
  rw [lH_up (by omega), lH_up (by omega)]
theorem tjH_am {k : Nat} {f : Nat → Int} {o : Nat → Int × Int × Int} {q : Int} (hA : Am h) (N8 : 1000 ≤ N) (r8 : 1000 ≤ r) : Am (tjH h N r s f k o q) := hA.ext (N := 1000) (fun m hm => tjH_lo (by omega) (by omega)) (by decide)
theorem tjH_tx {k : Nat} {f : Nat → Int} {o : Nat → Int × Int × Int} {q : Int} (hT : TxH h s V t n) (rs : r ≠ s) (rV : r ≠ V) (hsN : s < N) (hVN : V < N) : TxH (tjH h N r s f k o q) s V t n := by
  obtain ⟨M, c, f1, a1, a2, a3⟩ := hT
  exact ⟨M, c, f1, (tjH_lo hsN rs.symm).trans a1, (tjH_lo hVN rV.symm).trans a2, a3⟩
theorem tj_op {k : Nat} {f : Nat → Int} {o : Nat → Int × Int × Int} {q : Int} (hA : Am h) (r8 : 1000 ≤ r) (rs : r ≠ s) (rV : r ≠ V) (hT : TxH h s V t n) (hq : 0 ≤ q ∧ q ≤ n) (hN : zTop h N) (N8 : 1000 ≤ N) (hrN : r < N) (hsN : s < N) (hVN : V < N) :
    zMet yX13_operation (ws_ yX13_operation cX13_operation 2 (some (.array .int))) 10 [.ref r] (tjH h N r s f k o q) (fun z h' => match opP t n q with | .inl w => z = .inl (some (.ref (N + 6 + k))) ∧ h' = lH (N + 2) (k : Int) k (fun i => N + 6 + i) (zup (zup (tjC h N r s f k o q) (N + 6 + k) (aI 3 (row3 w.1 w.2.1 w.2.2.1))) r (oRd s w.2.2.2)) | .inr e => z = .inr (N + 6 + k + 1) ∧ ∃ f', h' = tfH (oH (tjH h N r s f k o q) r s (N + 6 + k) f' e) (N + 6 + k + 1) (N + 6 + k + 2) e) 3 18 := by
  refine (x13_operation (N := N + 6 + k) (tjH_am hA N8 r8) (tjH_r hrN) r8 rs rV (tjH_tx hT rs rV hsN hVN) hq (fun m hm => tjH_top hN hrN hm) (by omega) (by omega) (by omega) (by omega)).mono ?_
  intro z h' hz
  cases eo : opP t n q with
  | inl w =>
    rw [eo] at hz
    dsimp only at hz ⊢
    refine ⟨hz.1, hz.2.trans ?_⟩
    exact tjH_up hrN
  | inr e =>
    rw [eo] at hz
    exact hz
end XRj

