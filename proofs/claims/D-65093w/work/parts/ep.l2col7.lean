/-! LAYER 2: the reference's collector: marks -/
def mkfm (k : Nat) : Nat := if k = 1 then 232 else if k = 2 then 233 else if k = 3 then 234 else if k = 4 then 235 else 236
def mki (o : OB2) : Int32 := if o.1 = 1 then o.2 - 30000 else if o.1 = 3 then o.2 - 64 else o.2
def typ (k : Nat) : Int32 := if k = 2 then 4 else if k = 3 then 5 else if k = 4 then 7 else 6
def okm (o : OB2) : Prop := (o.1 = 1 ∧ 30000 ≤ o.2 ∧ o.2 < 42000) ∨ (o.1 = 2 ∧ 0 ≤ o.2 ∧ o.2 < 3000) ∨ (o.1 = 3 ∧ 64 ≤ o.2 ∧ o.2 < 4064) ∨ (o.1 = 4 ∧ 0 ≤ o.2 ∧ o.2 < 12000) ∨ (o.1 = 5 ∧ 0 ≤ o.2 ∧ o.2 < 120)
def mkm (τ : mS) (o : OB2) : Prop := sI τ (mkfm o.1) (mki o) = 1
def mmF (k : Nat) : Bool := [232, 233, 234, 235, 236, 237, 238].contains k
def cod (o : OB2) : Int32 := 8 * o.2 + typ o.1
def rnk (o : OB2) : Int32 := if o.1 = 2 then o.2 else if o.1 = 3 then 3000 + (o.2 - 64) else if o.1 = 4 then 7000 + o.2 else 19000 + o.2
theorem k_2 {a b : Nat} (h : a = b) (n : ¬ a = b) : False := n h
theorem okm_k {o : OB2} (h : okm o) : o.1 = 1 ∨ o.1 = 2 ∨ o.1 = 3 ∨ o.1 = 4 ∨ o.1 = 5 := by
  rcases h with ⟨h, _⟩ | ⟨h, _⟩ | ⟨h, _⟩ | ⟨h, _⟩ | ⟨h, _⟩
  · exact .inl h
  · exact .inr (.inl h)
  · exact .inr (.inr (.inl h))
  · exact .inr (.inr (.inr (.inl h)))
  · exact .inr (.inr (.inr (.inr h)))
theorem okm_i {o : OB2} (h : okm o) : 0 ≤ mki o := by
  rcases h with ⟨h, a, b⟩ | ⟨h, a, b⟩ | ⟨h, a, b⟩ | ⟨h, a, b⟩ | ⟨h, a, b⟩ <;> simp only [mki, h]
  · rw [if_pos trivial]; lia
  · rw [if_neg (by decide), if_neg (by decide)]; exact a
  · rw [if_neg (by decide), if_pos trivial]; lia
  · rw [if_neg (by decide), if_neg (by decide)]; exact a
  · rw [if_neg (by decide), if_neg (by decide)]; exact a
theorem mki_j {o o' : OB2} (h : o.1 = o'.1) (e : mki o = mki o') : o = o' := by
  refine Prod.ext h ?_
  simp only [mki] at e
  rw [h] at e
  by_cases c1 : o'.1 = 1
  · rw [if_pos c1, if_pos c1] at e; lia
  · rw [if_neg c1, if_neg c1] at e
    by_cases c3 : o'.1 = 3
    · rw [if_pos c3, if_pos c3] at e; lia
    · rw [if_neg c3, if_neg c3] at e; exact e
theorem mkfm_i {j k : Nat} (hj : j = 1 ∨ j = 2 ∨ j = 3 ∨ j = 4 ∨ j = 5) (hk : k = 1 ∨ k = 2 ∨ k = 3 ∨ k = 4 ∨ k = 5) (h : j ≠ k) : mkfm j ≠ mkfm k := by
  rcases hj with rfl | rfl | rfl | rfl | rfl <;> rcases hk with rfl | rfl | rfl | rfl | rfl <;> first | exact absurd rfl h | decide
theorem mkfm_F {k : Nat} (hk : k = 1 ∨ k = 2 ∨ k = 3 ∨ k = 4 ∨ k = 5) : mmF (mkfm k) = true ∧ mkfm k ≠ 237 := by
  rcases hk with rfl | rfl | rfl | rfl | rfl <;> exact ⟨by decide, by decide⟩
theorem rnk_b {o : OB2} (h : okm o) (h1 : o.1 ≠ 1) : 0 ≤ rnk o ∧ (rnk o).toInt < (19120 : Nat) := by
  have key : ∀ x : Int32, 0 ≤ x → x < 19120 → 0 ≤ x ∧ x.toInt < (19120 : Nat) := fun x a b => ⟨a, tI_lt.mp b⟩
  rcases h with ⟨h, a, b⟩ | ⟨h, a, b⟩ | ⟨h, a, b⟩ | ⟨h, a, b⟩ | ⟨h, a, b⟩ <;> simp only [rnk, h]
  · exact absurd h h1
  · rw [if_pos trivial]; exact key _ a (by lia)
  · rw [if_neg (by decide), if_pos trivial]; exact key _ (by lia) (by lia)
  · rw [if_neg (by decide), if_neg (by decide), if_pos trivial]; exact key _ (by lia) (by lia)
  · rw [if_neg (by decide), if_neg (by decide), if_neg (by decide)]; exact key _ (by lia) (by lia)
theorem rnk_j {o o' : OB2} (h : okm o) (h' : okm o') (h1 : o.1 ≠ 1) (h1' : o'.1 ≠ 1) (e : rnk o = rnk o') : o = o' := by
  obtain ⟨k, x⟩ := o
  obtain ⟨k', x'⟩ := o'
  rcases h with ⟨h, a, b⟩ | ⟨h, a, b⟩ | ⟨h, a, b⟩ | ⟨h, a, b⟩ | ⟨h, a, b⟩ <;> rcases h' with ⟨h', a', b'⟩ | ⟨h', a', b'⟩ | ⟨h', a', b'⟩ | ⟨h', a', b'⟩ | ⟨h', a', b'⟩ <;> simp only at h h' a b a' b' <;> subst h <;> subst h' <;> first | exact absurd rfl h1 | exact absurd rfl h1' | skip
  all_goals simp [rnk] at e
  all_goals first | (exact Prod.ext rfl (show x = x' by lia)) | (exfalso; lia)
/-- marks so far: what was gone through, what lies on the pile -/
def JM (μ0 : mS) (R : OB2 → Prop) (E : OB2 → OB2 → Prop) (ex : OB2 → Prop) (τ : mS) (G L : List OB2) : Prop :=
  m_fr mmF μ0 τ
  ∧ (sF τ 238 = Int32.ofNat L.length ∧ ∀ j, j < L.length → sI τ 237 (Int32.ofNat j) = cod (L.getD j (0, 0)))
  ∧ (G ++ L).Nodup ∧ (∀ o, o ∈ G ++ L → okm o ∧ o.1 ≠ 1 ∧ mkm τ o)
  ∧ (∀ o, okm o → o.1 ≠ 1 → mkm τ o → o ∈ G ++ L)
  ∧ (∀ o, okm o → sI τ (mkfm o.1) (mki o) = 0 ∨ mkm τ o)
  ∧ (∀ o, okm o → mkm τ o → R o)
  ∧ (∀ o, okm o → mkm τ o → ¬ ex o → o ∉ L → ∀ y, E o y → okm y → mkm τ y)
theorem set_mkm {τ : mS} {z o : OB2} (hz : okm z) (ho : okm o) : sI (md_ai τ (mkfm z.1) (mki z).toNatClampNeg 1) (mkfm o.1) (mki o) = if o = z then 1 else sI τ (mkfm o.1) (mki o) := by
  by_cases c : o.1 = z.1
  · rw [c, sI_aj (okm_i hz) (okm_i ho)]
    by_cases c2 : mki o = mki z
    · rw [if_pos c2, if_pos (mki_j c c2)]
    · rw [if_neg c2, if_neg (fun h => c2 (by rw [h]))]
  · rw [sI_ai1 (mkfm_i (okm_k ho) (okm_k hz) c), if_neg (fun h => c (by rw [h]))]
theorem ai_same {τ : mS} {k i : Nat} {v : Int32} (h : τ.2.2.1 k i = v) : md_ai τ k i v = τ := by
  obtain ⟨a, b, c, d⟩ := τ
  have e : (md_ai (a, b, c, d) k i v).2.2.1 = c := by
    funext j
    rw [ai_I]
    by_cases cj : j = k
    · subst cj
      rw [if_pos rfl]
      funext m
      simp only [upd]
      split
      · rename_i hm; subst hm; exact h.symm
      · rfl
    · rw [if_neg cj]
  exact Prod.ext rfl (Prod.ext rfl (Prod.ext e rfl))
theorem JM_len {μ0 τ : mS} {R : OB2 → Prop} {E : OB2 → OB2 → Prop} {ex : OB2 → Prop} {G L : List OB2} (J : JM μ0 R E ex τ G L) : G.length + L.length ≤ 19120 := by
  obtain ⟨j1, j2, j3, j4, _⟩ := J
  have nd : ((G ++ L).map rnk).Nodup := List.pairwise_map.mpr (j3.imp_of_mem (fun {a b} ha hb hne e => hne (rnk_j (j4 a ha).1 (j4 b hb).1 (j4 a ha).2.1 (j4 b hb).2.1 e)))
  have len := nd_len (M := 19120) _ nd (fun y hy => by
    obtain ⟨o, ho, rfl⟩ := List.mem_map.mp hy
    exact rnk_b (j4 o ho).1 (j4 o ho).2.1)
  rw [List.length_map, List.length_append] at len
  exact len
/-- a string is marked -/
theorem setm_M {μ0 τ : mS} {R : OB2 → Prop} {E : OB2 → OB2 → Prop} {ex : OB2 → Prop} {G L : List OB2} (J : JM μ0 R E ex τ G L) {z : OB2} (hz : z.1 = 1) (ho : okm z) (hR : R z) (hE : ∀ y, ¬ E z y) : JM μ0 R E ex (md_ai τ (mkfm z.1) (mki z).toNatClampNeg 1) G L ∧ (∀ o, okm o → mkm τ o → mkm (md_ai τ (mkfm z.1) (mki z).toNatClampNeg 1) o) ∧ mkm (md_ai τ (mkfm z.1) (mki z).toNatClampNeg 1) z := by
  obtain ⟨j1, j2, j3, j4, j5, j6, j7, j8⟩ := J
  have st := fun (o : OB2) (h : okm o) => set_mkm (τ := τ) ho h
  have F := mkfm_F (okm_k ho)
  have f1 := mf_ai (i := (mki z).toNatClampNeg) (v := 1) j1 F.1
  have r237 : ∀ j, sI (md_ai τ (mkfm z.1) (mki z).toNatClampNeg 1) 237 j = sI τ 237 j := fun j => sI_ai1 F.2.symm
  have f238 : sF (md_ai τ (mkfm z.1) (mki z).toNatClampNeg 1) 238 = sF τ 238 := sF_ai
  generalize md_ai τ (mkfm z.1) (mki z).toNatClampNeg 1 = τ' at *
  have mono : ∀ o, okm o → mkm τ o → mkm τ' o := fun o h hm => by
    simp only [mkm]
    rw [st o h]
    split
    · rfl
    · exact hm
  have back : ∀ o, okm o → mkm τ' o → o = z ∨ mkm τ o := fun o h hm => by
    simp only [mkm] at hm
    rw [st o h] at hm
    by_cases c : o = z
    · exact .inl c
    · rw [if_neg c] at hm; exact .inr hm
  have mz : mkm τ' z := by
    simp only [mkm]
    rw [st z ho, if_pos rfl]
  refine ⟨⟨f1, ⟨by rw [f238]; exact j2.1, fun j hj => by rw [r237]; exact j2.2 j hj⟩, j3, fun o h => ⟨(j4 o h).1, (j4 o h).2.1, mono o (j4 o h).1 (j4 o h).2.2⟩, fun o h h1 hm => ?_, fun o h => ?_, fun o h hm => ?_, fun o h hm hex hl y hy ok => ?_⟩, mono, mz⟩
  · rcases back o h hm with q | q
    · exact absurd (by rw [q]; exact hz) h1
    · exact j5 o h h1 q
  · by_cases c : o = z
    · exact .inr (by rw [c]; exact mz)
    · rw [st o h, if_neg c]
      rcases j6 o h with q | q
      · exact .inl q
      · exact .inr (mono o h q)
  · rcases back o h hm with q | q
    · rw [q]; exact hR
    · exact j7 o h q
  · rcases back o h hm with q | q
    · rw [q] at hy; exact absurd hy (hE y)
    · exact mono y ok (j8 o h q hex hl y hy ok)
def pshm (τ : mS) (z : OB2) (c : Int32) : mS := md_pi (md_ai (md_ai τ (mkfm z.1) (mki z).toNatClampNeg 1) 237 c.toNatClampNeg (cod z)) 238 (c + 1)
theorem app_lo {l : List OB2} {x : OB2} : (l ++ [x]).getD l.length (0, 0) = x := by simp [List.getD_eq_getElem?_getD]
theorem app_ao {l : List OB2} {x : OB2} {j : Nat} (h : j < l.length) : (l ++ [x]).getD j (0, 0) = l.getD j (0, 0) := by
  simp only [List.getD_eq_getElem?_getD]
  rw [List.getElem?_append_left h]
/-- one more on the pile -/
theorem push_M {μ0 τ : mS} {R : OB2 → Prop} {E : OB2 → OB2 → Prop} {ex : OB2 → Prop} {G L : List OB2} (J : JM μ0 R E ex τ G L) {z : OB2} (hz : z.1 ≠ 1) (ho : okm z) (hR : R z) (nm : ¬ mkm τ z) : ∃ c, sF τ 238 = c ∧ 0 ≤ c ∧ c < 32000 ∧ JM μ0 R E ex (pshm τ z c) G (L ++ [z]) ∧ (∀ o, okm o → mkm τ o → mkm (pshm τ z c) o) ∧ mkm (pshm τ z c) z := by
  have len := JM_len J
  obtain ⟨j1, j2, j3, j4, j5, j6, j7, j8⟩ := J
  have F := mkfm_F (okm_k ho)
  have c0 : 0 ≤ Int32.ofNat L.length := oN_nn (by omega)
  have c1 : Int32.ofNat L.length < 32000 := by
    rw [show (32000 : Int32) = Int32.ofNat 32000 from rfl, oN_lt (by omega) (by omega)]
    omega
  refine ⟨Int32.ofNat L.length, j2.1, c0, c1, ?_⟩
  have st : ∀ o : OB2, okm o → sI (pshm τ z (Int32.ofNat L.length)) (mkfm o.1) (mki o) = if o = z then 1 else sI τ (mkfm o.1) (mki o) := fun o h => by
    rw [pshm, sI_pi, sI_ai1 (mkfm_F (okm_k h)).2]
    exact set_mkm ho h
  have f1 : m_fr mmF μ0 (pshm τ z (Int32.ofNat L.length)) := mf_pi (mf_ai (mf_ai j1 F.1) rfl) rfl
  have f238 : sF (pshm τ z (Int32.ofNat L.length)) 238 = Int32.ofNat L.length + 1 := by rw [pshm, sF_pi, if_pos rfl]
  have r237 : ∀ i, 0 ≤ i → sI (pshm τ z (Int32.ofNat L.length)) 237 i = if i = Int32.ofNat L.length then cod z else sI τ 237 i := fun i i0 => by
    rw [pshm, sI_pi, sI_aj c0 i0, sI_ai1 F.2.symm]
  generalize pshm τ z (Int32.ofNat L.length) = τ' at *
  have mono : ∀ o, okm o → mkm τ o → mkm τ' o := fun o h hm => by
    simp only [mkm]
    rw [st o h]
    split
    · rfl
    · exact hm
  have back : ∀ o, okm o → mkm τ' o → o = z ∨ mkm τ o := fun o h hm => by
    simp only [mkm] at hm
    rw [st o h] at hm
    by_cases c : o = z
    · exact .inl c
    · rw [if_neg c] at hm; exact .inr hm
  have mz : mkm τ' z := by
    simp only [mkm]
    rw [st z ho, if_pos rfl]
  have hx : z ∉ G ++ L := fun h => nm (j4 z h).2.2
  refine ⟨⟨f1, ⟨?_, fun j hj => ?_⟩, ?_, fun o h => ?_, fun o h h1 hm => ?_, fun o h => ?_, fun o h hm => ?_, fun o h hm hex hl y hy ok => ?_⟩, mono, mz⟩
  · rw [f238, List.length_append, List.length_singleton]; exact oN_s
  · rw [List.length_append, List.length_singleton] at hj
    rw [r237 _ (oN_nn (by omega))]
    by_cases cj : j = L.length
    · subst cj
      rw [if_pos rfl, app_lo]
    · rw [if_neg (fun q => cj ((oN_eq (by omega) (by omega)).mp q)), app_ao (by omega)]
      exact j2.2 j (by omega)
  · rw [← List.append_assoc]
    refine List.nodup_append.mpr ⟨j3, by simp, fun a ha b hb => ?_⟩
    rw [List.mem_singleton] at hb
    subst hb
    exact fun q => hx (by rw [← q]; exact ha)
  · rw [← List.append_assoc] at h
    rcases List.mem_append.mp h with h | h
    · exact ⟨(j4 o h).1, (j4 o h).2.1, mono o (j4 o h).1 (j4 o h).2.2⟩
    · rw [List.mem_singleton] at h
      subst h
      exact ⟨ho, hz, mz⟩
  · rw [← List.append_assoc]
    rcases back o h hm with q | q
    · exact List.mem_append.mpr (.inr (List.mem_singleton.mpr q))
    · exact List.mem_append.mpr (.inl (j5 o h h1 q))
  · by_cases c : o = z
    · exact .inr (by rw [c]; exact mz)
    · rw [st o h, if_neg c]
      rcases j6 o h with q | q
      · exact .inl q
      · exact .inr (mono o h q)
  · rcases back o h hm with q | q
    · rw [q]; exact hR
    · exact j7 o h q
  · rcases back o h hm with q | q
    · exact absurd (List.mem_append.mpr (.inr (List.mem_singleton.mpr q))) hl
    · exact mono y ok (j8 o h q hex (fun z => hl (List.mem_append.mpr (.inl z))) y hy ok)
