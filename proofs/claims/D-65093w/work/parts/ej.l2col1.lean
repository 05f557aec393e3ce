/-! LAYER 2: the system's collector: marks -/
/-- things: a kind (1 strings, 2 tables, 3 functions, 4 boxes, 5 coroutines) and a number -/
abbrev OB2 : Type := Nat × Int32
def mkf (k : Nat) : Nat := if k = 1 then 142 else if k = 2 then 238 else if k = 3 then 239 else if k = 4 then 240 else 340
def pcf (k : Nat) : Nat := if k = 2 then 243 else if k = 3 then 244 else 342
def prf (k : Nat) : Nat := if k = 2 then 241 else if k = 3 then 242 else 341
def pk (k : Nat) : Prop := k = 2 ∨ k = 3 ∨ k = 5
def cap (k : Nat) : Nat := if k = 2 then 3000 else if k = 3 then 4000 else 121
def okx (o : OB2) : Prop := (o.1 = 1 ∧ 0 ≤ o.2 ∧ o.2 < 12000) ∨ (o.1 = 2 ∧ 0 ≤ o.2 ∧ o.2 < 3000) ∨ (o.1 = 3 ∧ 0 ≤ o.2 ∧ o.2 < 4000) ∨ (o.1 = 4 ∧ 0 ≤ o.2 ∧ o.2 < 12000) ∨ (o.1 = 5 ∧ 0 < o.2 ∧ o.2 < 121)
def mkx (τ : mS) (o : OB2) : Prop := sI τ (mkf o.1) o.2 = 1
def mkF (k : Nat) : Bool := [142, 238, 239, 240, 241, 242, 243, 244, 340, 341, 342].contains k
theorem okx_0 {o : OB2} (h : okx o) : 0 ≤ o.2 := by
  rcases h with ⟨_, h, _⟩ | ⟨_, h, _⟩ | ⟨_, h, _⟩ | ⟨_, h, _⟩ | ⟨_, h, _⟩
  · exact h
  · exact h
  · exact h
  · exact h
  · exact Int32.le_of_lt h
theorem okx_k {o : OB2} (h : okx o) : o.1 = 1 ∨ o.1 = 2 ∨ o.1 = 3 ∨ o.1 = 4 ∨ o.1 = 5 := by
  rcases h with ⟨h, _⟩ | ⟨h, _⟩ | ⟨h, _⟩ | ⟨h, _⟩ | ⟨h, _⟩
  · exact .inl h
  · exact .inr (.inl h)
  · exact .inr (.inr (.inl h))
  · exact .inr (.inr (.inr (.inl h)))
  · exact .inr (.inr (.inr (.inr h)))
theorem okx_c {k : Nat} {x : Int32} (h : okx (k, x)) (hk : pk k) : x.toInt < cap k := by
  have key : ∀ a b : Nat, k = a → k = b → a = b := fun a b h1 h2 => h1.symm.trans h2
  rcases hk with e | e | e
  · rcases h with ⟨h, _⟩ | ⟨_, _, h⟩ | ⟨h, _⟩ | ⟨h, _⟩ | ⟨h, _⟩
    · exact absurd (key _ _ e h) (by decide)
    · rw [e]; exact tI_lt.mp h
    · exact absurd (key _ _ e h) (by decide)
    · exact absurd (key _ _ e h) (by decide)
    · exact absurd (key _ _ e h) (by decide)
  · rcases h with ⟨h, _⟩ | ⟨h, _⟩ | ⟨_, _, h⟩ | ⟨h, _⟩ | ⟨h, _⟩
    · exact absurd (key _ _ e h) (by decide)
    · exact absurd (key _ _ e h) (by decide)
    · rw [e]; exact tI_lt.mp h
    · exact absurd (key _ _ e h) (by decide)
    · exact absurd (key _ _ e h) (by decide)
  · rcases h with ⟨h, _⟩ | ⟨h, _⟩ | ⟨h, _⟩ | ⟨h, _⟩ | ⟨_, _, h⟩
    · exact absurd (key _ _ e h) (by decide)
    · exact absurd (key _ _ e h) (by decide)
    · exact absurd (key _ _ e h) (by decide)
    · exact absurd (key _ _ e h) (by decide)
    · rw [e]; exact tI_lt.mp h
theorem mkf_i {j k : Nat} (hj : j = 1 ∨ j = 2 ∨ j = 3 ∨ j = 4 ∨ j = 5) (hk : k = 1 ∨ k = 2 ∨ k = 3 ∨ k = 4 ∨ k = 5) (h : j ≠ k) : mkf j ≠ mkf k := by
  rcases hj with rfl | rfl | rfl | rfl | rfl <;> rcases hk with rfl | rfl | rfl | rfl | rfl <;> first | exact absurd rfl h | decide
theorem mkf_p {j k : Nat} (hj : j = 1 ∨ j = 2 ∨ j = 3 ∨ j = 4 ∨ j = 5) (hk : pk k) : mkf j ≠ prf k := by
  rcases hj with rfl | rfl | rfl | rfl | rfl <;> rcases hk with rfl | rfl | rfl <;> decide
theorem mkf_F {k : Nat} (hk : k = 1 ∨ k = 2 ∨ k = 3 ∨ k = 4 ∨ k = 5) : mkF (mkf k) = true := by
  rcases hk with rfl | rfl | rfl | rfl | rfl <;> decide
theorem pk_F {k : Nat} (hk : pk k) : mkF (pcf k) = true ∧ mkF (prf k) = true := by
  rcases hk with rfl | rfl | rfl <;> exact ⟨by decide, by decide⟩
theorem pk_i {j k : Nat} (hj : pk j) (hk : pk k) (h : j ≠ k) : pcf j ≠ pcf k ∧ prf j ≠ prf k := by
  rcases hj with rfl | rfl | rfl <;> rcases hk with rfl | rfl | rfl <;> first | exact absurd rfl h | exact ⟨by decide, by decide⟩
theorem pk_5 {k : Nat} (hk : pk k) : k = 1 ∨ k = 2 ∨ k = 3 ∨ k = 4 ∨ k = 5 := by
  rcases hk with rfl | rfl | rfl
  · exact .inr (.inl rfl)
  · exact .inr (.inr (.inl rfl))
  · exact .inr (.inr (.inr (.inr rfl)))
/-- marks so far: what was gone through, what lies on the piles -/
def JX (σ0 : mS) (R : OB2 → Prop) (E : OB2 → OB2 → Prop) (ex : OB2 → Prop) (τ : mS) (Gd L : Nat → List Int32) : Prop :=
  m_fr mkF σ0 τ
  ∧ (∀ k, pk k → sF τ (pcf k) = Int32.ofNat (L k).length ∧ ∀ j, j < (L k).length → sI τ (prf k) (Int32.ofNat j) = (L k).getD j 0)
  ∧ (∀ k, pk k → (Gd k ++ L k).Nodup ∧ ∀ x, x ∈ Gd k ++ L k → okx (k, x) ∧ mkx τ (k, x))
  ∧ (∀ k x, pk k → okx (k, x) → mkx τ (k, x) → x ∈ Gd k ++ L k)
  ∧ (∀ o, okx o → sI τ (mkf o.1) o.2 = 0 ∨ mkx τ o)
  ∧ (∀ o, okx o → mkx τ o → R o)
  ∧ (∀ o, okx o → mkx τ o → ¬ ex o → ¬ (pk o.1 ∧ o.2 ∈ L o.1) → ∀ y, E o y → okx y → mkx τ y)
def lU (L : Nat → List Int32) (k : Nat) (l : List Int32) : Nat → List Int32 := fun j => if j = k then l else L j
theorem lU_s {L : Nat → List Int32} {k : Nat} {l : List Int32} : lU L k l k = l := if_pos rfl
theorem lU_o {L : Nat → List Int32} {j k : Nat} {l : List Int32} (h : j ≠ k) : lU L k l j = L j := if_neg h
/-- a mark is set -/
theorem set_mkx {τ : mS} {k : Nat} {x : Int32} {o : OB2} (hk : k = 1 ∨ k = 2 ∨ k = 3 ∨ k = 4 ∨ k = 5) (x0 : 0 ≤ x) (ho : okx o) : sI (md_ai τ (mkf k) x.toNatClampNeg 1) (mkf o.1) o.2 = if o = (k, x) then 1 else sI τ (mkf o.1) o.2 := by
  obtain ⟨k', y⟩ := o
  simp only
  by_cases c : k' = k
  · subst c
    rw [sI_aj x0 (okx_0 ho)]
    by_cases c2 : y = x
    · subst c2; rw [if_pos rfl, if_pos rfl]
    · rw [if_neg c2, if_neg (fun h => c2 (Prod.mk.inj h).2)]
  · rw [sI_ai1 (mkf_i (okx_k ho) hk c), if_neg (fun h => c (Prod.mk.inj h).1)]
/-- a string or a box is marked -/
theorem setm_J {σ0 τ : mS} {R : OB2 → Prop} {E : OB2 → OB2 → Prop} {ex : OB2 → Prop} {Gd L : Nat → List Int32} (J : JX σ0 R E ex τ Gd L) {k : Nat} {x : Int32} (hk : k = 1 ∨ k = 4) (ho : okx (k, x)) (hR : R (k, x)) : JX σ0 R E (fun o => ex o ∨ o = (k, x)) (md_ai τ (mkf k) x.toNatClampNeg 1) Gd L ∧ (∀ o, okx o → mkx τ o → mkx (md_ai τ (mkf k) x.toNatClampNeg 1) o) ∧ mkx (md_ai τ (mkf k) x.toNatClampNeg 1) (k, x) := by
  obtain ⟨j1, j2, j3, j4, j5, j6, j7⟩ := J
  have hk5 : k = 1 ∨ k = 2 ∨ k = 3 ∨ k = 4 ∨ k = 5 := by omega
  have x0 := okx_0 ho
  have st := fun (o : OB2) (h : okx o) => set_mkx (τ := τ) (k := k) (x := x) hk5 x0 h
  have npk : ¬ pk k := fun h => by rcases h with h | h | h <;> omega
  have mono : ∀ o, okx o → mkx τ o → mkx (md_ai τ (mkf k) x.toNatClampNeg 1) o := fun o h hm => by
    simp only [mkx]
    rw [st o h]
    split
    · rfl
    · exact hm
  have back : ∀ o, okx o → mkx (md_ai τ (mkf k) x.toNatClampNeg 1) o → o = (k, x) ∨ mkx τ o := fun o h hm => by
    simp only [mkx] at hm
    rw [st o h] at hm
    by_cases c : o = (k, x)
    · exact .inl c
    · rw [if_neg c] at hm; exact .inr hm
  refine ⟨⟨mf_ai j1 (mkf_F hk5), fun k' h => ?_, fun k' h => ⟨(j3 k' h).1, fun y hy => ⟨((j3 k' h).2 y hy).1, mono _ ((j3 k' h).2 y hy).1 ((j3 k' h).2 y hy).2⟩⟩, fun k' y h hy hm => ?_, fun o h => ?_, fun o h hm => ?_, fun o h hm hex hpl y hE hy => ?_⟩, mono, ?_⟩
  · refine ⟨(j2 k' h).1, fun j hj => ?_⟩
    rw [sI_ai1 (fun q => mkf_p hk5 h q.symm)]
    exact (j2 k' h).2 j hj
  · rcases back _ hy hm with q | q
    · exact absurd h (by rw [(Prod.mk.inj q).1]; exact npk)
    · exact j4 k' y h hy q
  · rw [st o h]
    by_cases c : o = (k, x)
    · right
      simp only [mkx]
      rw [st o h, if_pos c]
    · rw [if_neg c]
      rcases j5 o h with q | q
      · exact .inl q
      · exact .inr (mono o h q)
  · rcases back o h hm with q | q
    · rw [q]; exact hR
    · exact j6 o h q
  · rcases back o h hm with q | q
    · exact absurd (.inr q) hex
    · exact mono y hy (j7 o h q (fun z => hex (.inl z)) hpl y hE hy)
  · simp only [mkx]
    rw [st (k, x) ho, if_pos rfl]
theorem cap_4 {k : Nat} (hk : pk k) : cap k ≤ 4000 := by
  rcases hk with rfl | rfl | rfl
  · simp [cap]
  · simp [cap]
  · simp [cap]
/-- one more on a pile: what is written -/
def psh (τ : mS) (k : Nat) (x c : Int32) : mS := md_ai (md_pi (md_ai τ (mkf k) x.toNatClampNeg 1) (pcf k) (c + 1)) (prf k) c.toNatClampNeg x
theorem psh_fr {σ0 τ : mS} {k : Nat} {x c : Int32} (j1 : m_fr mkF σ0 τ) (hk : pk k) : m_fr mkF σ0 (psh τ k x c) := mf_ai (mf_pi (mf_ai j1 (mkf_F (pk_5 hk))) (pk_F hk).1) (pk_F hk).2
theorem psh_st {τ : mS} {k : Nat} {x c : Int32} (hk : pk k) (x0 : 0 ≤ x) (o : OB2) (h : okx o) : sI (psh τ k x c) (mkf o.1) o.2 = if o = (k, x) then 1 else sI τ (mkf o.1) o.2 := by
  rw [psh, sI_ai1 (mkf_p (okx_k h) hk), sI_pi]
  exact set_mkx (pk_5 hk) x0 h
theorem psh_c {τ : mS} {k : Nat} {x c : Int32} : sF (psh τ k x c) (pcf k) = c + 1 := by
  rw [psh, sF_ai, sF_pi, if_pos rfl]
theorem psh_co {τ : mS} {j k : Nat} {x c : Int32} (h : pcf j ≠ pcf k) : sF (psh τ k x c) (pcf j) = sF τ (pcf j) := by
  rw [psh, sF_ai, sF_pi, if_neg h, sF_ai]
theorem psh_r {τ : mS} {k : Nat} {x c i : Int32} (hk : pk k) (c0 : 0 ≤ c) (i0 : 0 ≤ i) : sI (psh τ k x c) (prf k) i = if i = c then x else sI τ (prf k) i := by
  rw [psh, sI_aj c0 i0, sI_pi, sI_ai1 (fun q => mkf_p (pk_5 hk) hk q.symm)]
theorem psh_ro {τ : mS} {j k : Nat} {x c i : Int32} (hj : pk j) (hk : pk k) (h : prf j ≠ prf k) : sI (psh τ k x c) (prf j) i = sI τ (prf j) i := by
  rw [psh, sI_ai1 h, sI_pi, sI_ai1 (fun q => mkf_p (pk_5 hk) hj q.symm)]
theorem psh_row {τ : mS} {L : Nat → List Int32} {k : Nat} {x : Int32} (j2 : ∀ k, pk k → sF τ (pcf k) = Int32.ofNat (L k).length ∧ ∀ j, j < (L k).length → sI τ (prf k) (Int32.ofNat j) = (L k).getD j 0) (hk : pk k) (len : (L k).length < 4000) : ∀ k', pk k' → sF (psh τ k x (Int32.ofNat (L k).length)) (pcf k') = Int32.ofNat (lU L k (L k ++ [x]) k').length ∧ ∀ j, j < (lU L k (L k ++ [x]) k').length → sI (psh τ k x (Int32.ofNat (L k).length)) (prf k') (Int32.ofNat j) = (lU L k (L k ++ [x]) k').getD j 0 := fun k' h => by
  have c0 : 0 ≤ Int32.ofNat (L k).length := oN_nn (by omega)
  by_cases c : k' = k
  · subst c
    rw [lU_s]
    refine ⟨?_, fun j hj => ?_⟩
    · rw [psh_c, List.length_append, List.length_singleton]
      exact oN_s
    · rw [List.length_append, List.length_singleton] at hj
      rw [psh_r hk c0 (oN_nn (by omega))]
      by_cases cj : j = (L k').length
      · subst cj
        rw [if_pos rfl, app_ln]
      · rw [if_neg (fun q => cj ((oN_eq (by omega) (by omega)).mp q)), app_at (by omega)]
        exact (j2 k' h).2 j (by omega)
  · rw [lU_o c]
    have ne := pk_i h hk c
    refine ⟨?_, fun j hj => ?_⟩
    · rw [psh_co ne.1]
      exact (j2 k' h).1
    · rw [psh_ro h hk ne.2]
      exact (j2 k' h).2 j hj
/-- one more on a pile: marks -/
theorem push_J0 {σ0 τ τ' : mS} {R : OB2 → Prop} {E : OB2 → OB2 → Prop} {ex : OB2 → Prop} {Gd L : Nat → List Int32} (J : JX σ0 R E ex τ Gd L) {k : Nat} {x : Int32} (hk : pk k) (ho : okx (k, x)) (hR : R (k, x)) (hx : x ∉ Gd k ++ L k) (f1 : m_fr mkF σ0 τ') (f2 : ∀ k', pk k' → sF τ' (pcf k') = Int32.ofNat (lU L k (L k ++ [x]) k').length ∧ ∀ j, j < (lU L k (L k ++ [x]) k').length → sI τ' (prf k') (Int32.ofNat j) = (lU L k (L k ++ [x]) k').getD j 0) (st : ∀ o : OB2, okx o → sI τ' (mkf o.1) o.2 = if o = (k, x) then 1 else sI τ (mkf o.1) o.2) : JX σ0 R E ex τ' Gd (lU L k (L k ++ [x])) ∧ (∀ o, okx o → mkx τ o → mkx τ' o) ∧ mkx τ' (k, x) := by
  obtain ⟨j1, j2, j3, j4, j5, j6, j7⟩ := J
  obtain ⟨n1, n2⟩ := j3 k hk
  have mono : ∀ o, okx o → mkx τ o → mkx τ' o := fun o h hm => by
    simp only [mkx]
    rw [st o h]
    split
    · rfl
    · exact hm
  have back : ∀ o, okx o → mkx τ' o → o = (k, x) ∨ mkx τ o := fun o h hm => by
    simp only [mkx] at hm
    rw [st o h] at hm
    by_cases c : o = (k, x)
    · exact .inl c
    · rw [if_neg c] at hm; exact .inr hm
  have mx : mkx τ' (k, x) := by
    simp only [mkx]
    rw [st (k, x) ho, if_pos rfl]
  refine ⟨⟨f1, f2, fun k' h => ?_, fun k' y h hy hm => ?_, fun o h => ?_, fun o h hm => ?_, fun o h hm hex hpl y hE hy => ?_⟩, mono, mx⟩
  · by_cases c : k' = k
    · subst c
      rw [lU_s]
      refine ⟨?_, fun y hy => ?_⟩
      · rw [← List.append_assoc]
        refine List.nodup_append.mpr ⟨n1, by simp, fun a ha b hb => ?_⟩
        rw [List.mem_singleton] at hb
        subst hb
        exact fun q => hx (by rw [← q]; exact ha)
      · rw [← List.append_assoc] at hy
        rcases List.mem_append.mp hy with hy | hy
        · exact ⟨(n2 y hy).1, mono _ (n2 y hy).1 (n2 y hy).2⟩
        · rw [List.mem_singleton] at hy
          subst hy
          exact ⟨ho, mx⟩
    · rw [lU_o c]
      exact ⟨(j3 k' h).1, fun y hy => ⟨((j3 k' h).2 y hy).1, mono _ ((j3 k' h).2 y hy).1 ((j3 k' h).2 y hy).2⟩⟩
  · rcases back _ hy hm with q | q
    · obtain ⟨q1, q2⟩ := Prod.mk.inj q
      subst q1; subst q2
      rw [lU_s, ← List.append_assoc]
      exact List.mem_append.mpr (.inr (List.mem_singleton.mpr rfl))
    · have := j4 k' y h hy q
      by_cases c : k' = k
      · subst c
        rw [lU_s, ← List.append_assoc]
        exact List.mem_append.mpr (.inl this)
      · rw [lU_o c]; exact this
  · by_cases c : o = (k, x)
    · exact .inr (by rw [c]; exact mx)
    · rw [st o h, if_neg c]
      rcases j5 o h with q | q
      · exact .inl q
      · exact .inr (mono o h q)
  · rcases back o h hm with q | q
    · rw [q]; exact hR
    · exact j6 o h q
  · rcases back o h hm with q | q
    · exact absurd ⟨by rw [q]; exact hk, by rw [q, lU_s]; exact List.mem_append.mpr (.inr (List.mem_singleton.mpr rfl))⟩ hpl
    · refine mono y hy (j7 o h q hex (fun z => hpl ⟨z.1, ?_⟩) y hE hy)
      by_cases c : o.1 = k
      · rw [c, lU_s]
        rw [c] at z
        exact List.mem_append.mpr (.inl z.2)
      · rw [lU_o c]; exact z.2
/-- one more on a pile -/
theorem push_J {σ0 τ : mS} {R : OB2 → Prop} {E : OB2 → OB2 → Prop} {ex : OB2 → Prop} {Gd L : Nat → List Int32} (J : JX σ0 R E ex τ Gd L) {k : Nat} {x : Int32} (hk : pk k) (ho : okx (k, x)) (hR : R (k, x)) (nm : ¬ mkx τ (k, x)) : ∃ c, sF τ (pcf k) = c ∧ 0 ≤ c ∧ c.toInt < cap k ∧ JX σ0 R E ex (psh τ k x c) Gd (lU L k (L k ++ [x])) ∧ (∀ o, okx o → mkx τ o → mkx (psh τ k x c) o) ∧ mkx (psh τ k x c) (k, x) := by
  have J' := J
  obtain ⟨j1, j2, j3, j4, j5, j6, j7⟩ := J
  have x0 := okx_0 ho
  obtain ⟨p1, p2⟩ := j2 k hk
  obtain ⟨n1, n2⟩ := j3 k hk
  have hx : x ∉ Gd k ++ L k := fun h => nm (n2 x h).2
  have nd : (x :: (Gd k ++ L k)).Nodup := List.nodup_cons.mpr ⟨hx, n1⟩
  have len := nd_len (M := cap k) _ nd (fun y hy => by
    rcases List.mem_cons.mp hy with rfl | hy
    · exact ⟨x0, okx_c ho hk⟩
    · exact ⟨okx_0 (n2 y hy).1, okx_c (n2 y hy).1 hk⟩)
  rw [List.length_cons, List.length_append] at len
  have cap4 : cap k ≤ 4000 := cap_4 hk
  have cI : (Int32.ofNat (L k).length).toInt = ((L k).length : Int) := tI_lit (by omega)
  exact ⟨Int32.ofNat (L k).length, p1, oN_nn (by omega), by rw [cI]; omega, push_J0 J' hk ho hR hx (psh_fr j1 hk) (psh_row j2 hk (by omega)) (psh_st hk x0)⟩
