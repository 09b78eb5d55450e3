/-! ===== handlers: the first, the second, the third one catches ===== -/
section ZC1
variable {y : MethodName} {cc : ByteArray} {nL : Nat} {ret : Option FieldType} {hs : List (Nat × Nat × Nat × Nat)} {d kc ks : Nat} {X : zX} {Q : zO → zH → Prop} {h : zH} {k n pc : Nat} {env : List (Nat × Value)} {q ci : Nat} {fs : List Value} {C E E1 E2 : String} {a1 b1 c1 t1 a2 b2 c2 t2 a3 b3 c3 t3 : Nat}
theorem z_catch1 (K : zK y cc nL ret ((a1, b1, c1, t1) :: hs) d kc ks X) (hq : h q = some (.inr (ci, fs))) (hci : (zcl[ci]?).map (fun q => q.1) = some C) (hp : a1 ≤ pc ∧ pc < b1) (h0 : t1 ≠ 0) (hl : Jvm.Cond.classLink y.cls t1 E ∈ lw_all) (hc : Jvm.Cond.castable C E ∈ lw_tbl)
    (kk : zW X Q h k n c1 env [.ref q]) : zT X Q h k n pc env q :=
  z_catch (E := E) K hq hci [] ⟨a1, b1, c1, t1⟩ (tableOf hs) rfl (fun z hz => by cases hz) (by simp [covers, hp.1, hp.2]) h0 hl hc kk
theorem z_catch2 (K : zK y cc nL ret ((a1, b1, c1, t1) :: (a2, b2, c2, t2) :: hs) d kc ks X) (hq : h q = some (.inr (ci, fs))) (hci : (zcl[ci]?).map (fun q => q.1) = some C) (h1 : t1 ≠ 0) (l1 : Jvm.Cond.classLink y.cls t1 E1 ∈ lw_all) (n1 : (C, E1) ∈ zncl) (hp : a2 ≤ pc ∧ pc < b2) (h0 : t2 ≠ 0) (hl : Jvm.Cond.classLink y.cls t2 E ∈ lw_all) (hc : Jvm.Cond.castable C E ∈ lw_tbl)
    (kk : zW X Q h k n c2 env [.ref q]) : zT X Q h k n pc env q :=
  z_catch (E := E) K hq hci [⟨a1, b1, c1, t1⟩] ⟨a2, b2, c2, t2⟩ (tableOf hs) rfl (fun z hz => by rcases List.mem_singleton.mp hz with rfl; exact Or.inr ⟨h1, E1, l1, n1⟩) (by simp [covers, hp.1, hp.2]) h0 hl hc kk
theorem z_catch3 (K : zK y cc nL ret ((a1, b1, c1, t1) :: (a2, b2, c2, t2) :: (a3, b3, c3, t3) :: hs) d kc ks X) (hq : h q = some (.inr (ci, fs))) (hci : (zcl[ci]?).map (fun q => q.1) = some C) (h1 : t1 ≠ 0) (l1 : Jvm.Cond.classLink y.cls t1 E1 ∈ lw_all) (n1 : (C, E1) ∈ zncl) (h2 : t2 ≠ 0) (l2 : Jvm.Cond.classLink y.cls t2 E2 ∈ lw_all) (n2 : (C, E2) ∈ zncl) (hp : a3 ≤ pc ∧ pc < b3) (h0 : t3 ≠ 0) (hl : Jvm.Cond.classLink y.cls t3 E ∈ lw_all) (hc : Jvm.Cond.castable C E ∈ lw_tbl)
    (kk : zW X Q h k n c3 env [.ref q]) : zT X Q h k n pc env q :=
  z_catch (E := E) K hq hci [⟨a1, b1, c1, t1⟩, ⟨a2, b2, c2, t2⟩] ⟨a3, b3, c3, t3⟩ (tableOf hs) rfl (fun z hz => by
    rcases List.mem_cons.mp hz with rfl | hz
    · exact Or.inr ⟨h1, E1, l1, n1⟩
    · rcases List.mem_singleton.mp hz with rfl; exact Or.inr ⟨h2, E2, l2, n2⟩) (by simp [covers, hp.1, hp.2]) h0 hl hc kk
end ZC1
theorem nc_SA : ("java/lang/IllegalStateException", "java/lang/IllegalArgumentException") ∈ zncl := by decide +kernel
theorem nc_SI : ("java/lang/IllegalStateException", "java/lang/IndexOutOfBoundsException") ∈ zncl := by decide +kernel
theorem nc_AI : ("java/lang/IllegalArgumentException", "java/lang/IndexOutOfBoundsException") ∈ zncl := by decide +kernel
theorem nc_NI : ("java/util/NoSuchElementException", "java/lang/IndexOutOfBoundsException") ∈ zncl := by decide +kernel
theorem nc_SN : ("java/lang/IllegalStateException", "java/util/NoSuchElementException") ∈ zncl := by decide +kernel
theorem nc_RT : ("SetupJobShop$Refused", "SetupJobShop$TextFault") ∈ zncl := by decide +kernel
