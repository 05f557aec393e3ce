/-! LAYER 2: the machines: the whole of calls and coroutines -/
/-- the parts of the registers that calls have, in their order -/
def OB (ba sz : Int32 → Int32) : Int32 → List Int32 → Int32 → Prop
  | lo, [], u => lo = u
  | lo, b :: l, u => lo ≤ ba b ∧ 0 < sz b ∧ sz b ≤ 2600 ∧ ba b ≤ 560000 ∧ OB ba sz (ba b + sz b) l u
def BLK (σ : mS) (bl : List Int32) : Prop := seg (sI σ 359) (sF σ 361) bl (-1) ∧ seg (sI σ 360) (sF σ 362) bl.reverse (-1) ∧ OB (sI σ 347) (sI σ 349) 0 bl (sF σ 363) ∧ sF σ 363 ≤ 560000
def cX (w : WD) : List Int32 := 0 :: (wC w).map Prod.fst
def fAll (w : WD) (xf : Int32 → List Int32) : List Int32 := ((cX w).map xf).flatten
/-- the system's calls -/
def XF (w : WD) (xf : Int32 → List Int32) (σ : mS) : Prop := ∃ fc bl, seg (sI σ 356) (sF σ 357) fc (-1) ∧ (∀ c, c ∈ cX w → seg (sI σ 356) (sI σ 326 c) (xf c) (-1)) ∧ (fc ++ fAll w xf).Nodup ∧ (∀ f, f ∈ fc ++ fAll w xf → 0 ≤ f ∧ f < 202) ∧ (fc ++ fAll w xf).length = 202 ∧ BLK σ bl ∧ bl.Nodup ∧ (∀ f, f ∈ bl ↔ f ∈ fAll w xf ∧ sI σ 349 f ≠ 0)
/-- the reference's calls of one that waits -/
def kff (μ : mS) (d k : Int32) (j : Nat) : Int32 := sI μ 176 (sI μ 165 d + 10 * k + Int32.ofNat j)
def kpt (μ : mS) (d i : Int32) : Int32 := sI μ 173 (sI μ 163 d + i)
def kpv (μ : mS) (d i : Int32) : Int64 := sJ μ 174 (sI μ 163 d + i)
/-- a coroutine that neither runs nor passes: dead, new, waiting -/
def cKd (S : SR) (w : WD) (xf : Int32 → List Int32) (σ μ : mS) (c d : Int32) : Prop :=
  (sI σ 323 c = 3 ∧ xf c = [] ∧ sI σ 324 c = 0 ∧ sI μ 166 d = 0 ∧ sI μ 164 d = 0)
  ∨ (sI σ 323 c = 0 ∧ xf c = [] ∧ sI σ 324 c = 6 ∧ sI μ 159 d = 0 ∧ VV w 6 (sJ σ 325 c) 5 (Int32.toInt64 (sI μ 158 d)) ∧ sI μ 166 d = 0 ∧ sI μ 164 d = 0)
  ∨ (sI σ 323 c = 0 ∧ sI σ 324 c = 0 ∧ sI μ 159 d = 1 ∧ FL S w σ (kff μ d) (kpt μ d) (kpv μ d) 4 0 0 (xf c) (sI μ 166 d) (sI σ 332 c, sI σ 333 c, sI σ 334 c, sI μ 167 d, sI μ 168 d, sI μ 169 d) ∧ sI μ 167 d = sI μ 164 d ∧ 0 ≤ sI μ 166 d ∧ sI μ 166 d ≤ 200)
/-- one whose calls are kept -/
def wts (μ : mS) (d : Int32) : Prop := 0 ≤ d ∧ d < 120 ∧ sI μ 170 d = 1 ∧ sI μ 156 d = 0 ∧ sI μ 159 d = 1
/-- where they are kept (what is empty lies anywhere) -/
def KLw (a s r n T R : Int32) : Prop := 0 ≤ s ∧ s ≤ 500000 ∧ 0 ≤ n ∧ n ≤ 500 ∧ (0 < s → 0 ≤ a ∧ a ≤ 500000 ∧ a + s ≤ T) ∧ (0 < n → 0 ≤ r ∧ r ≤ 5000 ∧ r + 10 * n ≤ R)
def KLd (a s r n a' s' r' n' : Int32) : Prop := (0 < s → 0 < s' → a + s ≤ a' ∨ a' + s' ≤ a) ∧ (0 < n → 0 < n' → r + 10 * n ≤ r' ∨ r' + 10 * n' ≤ r)
def KL (μ : mS) : Prop := (0 ≤ sF μ 175 ∧ sF μ 175 ≤ 500000) ∧ (0 ≤ sF μ 177 ∧ sF μ 177 ≤ 5000) ∧ (∀ d, wts μ d → KLw (sI μ 163 d) (sI μ 164 d) (sI μ 165 d) (sI μ 166 d) (sF μ 175) (sF μ 177)) ∧ (∀ d e, wts μ d → wts μ e → d ≠ e → KLd (sI μ 163 d) (sI μ 164 d) (sI μ 165 d) (sI μ 166 d) (sI μ 163 e) (sI μ 164 e) (sI μ 165 e) (sI μ 166 e))
/-- coroutines -/
def CO (S : SR) (w : WD) (xf : Int32 → List Int32) (ch : PL2) (σ μ : mS) : Prop := (∀ c d, (c, d) ∈ wC w → c ≤ 120 ∧ sI σ 323 c = sI μ 156 d ∧ sJ σ 335 c = Int32.toInt64 (sI μ 157 d) ∧ sI μ 170 d = 1 ∧ ((c, d) ∈ ch ∨ cKd S w xf σ μ c d)) ∧ (∀ d, 0 ≤ d → d < 120 → d ∉ (wC w).map Prod.snd → sI μ 170 d = 0) ∧ (∃ fcs, seg (sI σ 336) (sF σ 337) fcs (-1) ∧ (fcs ++ (wC w).map Prod.fst).Nodup ∧ (∀ c, c ∈ fcs ++ (wC w).map Prod.fst → 1 ≤ c ∧ c ≤ 120) ∧ (fcs ++ (wC w).map Prod.fst).length = 120) ∧ ((sF σ 338).toInt = (wC w).length ∧ (sF μ 171).toInt = (wC w).length) ∧ sJ σ 335 0 = Int32.toInt64 (sI μ 157 120) ∧ KL μ
/-- what is below a coroutine's own calls: the one that resumed it, or nothing -/
def BC (S : SR) (w : WD) (xf : Int32 → List Int32) (σ μ : mS) : Int32 × Int32 → PL2 → Prop
  | (c, d), [] => c = 0 ∧ d = 120 ∧ sI μ 162 120 = 0 ∧ sI μ 161 120 = 0
  | (c, d), e :: rest => (c, d) ∈ wC w ∧ (sI σ 324 c = 0 ∧ sI μ 159 d = 1 ∧ sI μ 166 d = 0 ∧ sI μ 164 d = 0) ∧ (1 ≤ sI μ 162 d ∧ sI μ 162 d ≤ 256) ∧ ((sI σ 328 c = 0 ∧ sI μ 144 (sI μ 162 d - 1) = 2) ∨ (sI σ 328 c = 1 ∧ sI μ 144 (sI μ 162 d - 1) = 3)) ∧ sI μ 161 d = mff μ (sI μ 162 d - 1) 5 ∧ (sI σ 327 c = e.1 ∧ sI μ 160 d = e.2) ∧ (sI σ 323 e.1 = 2 ∧ sI μ 156 e.2 = 2) ∧ (0 ≤ sI μ 161 d ∧ sI μ 161 d ≤ 2300 * (sI μ 162 d - 1)) ∧ FL S w σ (mff μ) (sI μ 141) (sJ μ 142) (if e.2 = 120 then 5 else 4) (sI μ 162 e.2) (sI μ 161 e.2) (xf e.1) (sI μ 162 d - 1) (sI σ 329 c, sI σ 330 c, sI σ 331 c, mff μ (sI μ 162 d - 1) 5, mff μ (sI μ 162 d - 1) 6, mff μ (sI μ 162 d - 1) 7) ∧ BC S w xf σ μ e rest
def kSum (w : WD) (μ : mS) : Int := ((wC w).map (fun p => (sI μ 166 p.2).toInt)).sum
/-- serials that coroutines took -/
def fQ (μ : mS) : Int := (sF μ 171).toInt + (if sI μ 157 120 = 0 then 0 else 1)
theorem fQ_e {μ τm : mS} (h1 : sF τm 171 = sF μ 171) (h2 : sI τm 157 120 = sI μ 157 120) : fQ τm = fQ μ := by
  simp only [fQ]; rw [h1, h2]
/-- all but the calls of the coroutine that runs -/
def ME (S : SR) (K : Int32 → Int32 → Int32 → Prop) (q : Int) (w : WD) (xf : Int32 → List Int32) (c d : Int32) (rest : PL2) (σ μ : mS) : Prop :=
  (RH K (q + fQ μ) w σ μ ∧ q + 122 ≤ 1000000000) ∧ ZS w σ ∧ HO w σ μ ∧ XF w xf σ ∧ CO S w xf ((c, d) :: rest) σ μ ∧ BC S w xf σ μ (c, d) rest ∧ (sF σ 339 = c ∧ sF μ 172 = d ∧ sI σ 323 c = 1 ∧ sI μ 156 d = 1) ∧ (((c, d) :: rest).map Prod.fst).Nodup ∧ (sF σ 358 = sF μ 155 ∧ 0 ≤ sF σ 358 ∧ sF σ 358 ≤ 200 ∧ (sF σ 358).toInt = (fAll w xf).length + rest.length ∧ (sF μ 155).toInt = (sF μ 154).toInt + kSum w μ) ∧ sF σ 396 = sF μ 180 ∧ 0 ≤ sF σ 396 ∧ sF μ 178 = 0
theorem RH_q {K : Int32 → Int32 → Int32 → Prop} {q q' : Int} {w : WD} {σ μ : mS} (H : RH K q w σ μ) (h : q ≤ q') (h' : q' ≤ 1000000000) : RH K q' w σ μ := by
  obtain ⟨a1, a2, a3, a4, a5, a6, a7, a8, a9⟩ := H
  exact ⟨a1, a2, a3, a4, a5, a6, a7, by omega, h'⟩
/-- the fields of calls and coroutines of the system that count here -/
def kX (k : Nat) : Prop := (323 ≤ k ∧ k ≤ 339) ∨ (343 ≤ k ∧ k ≤ 365)
def kM (k : Nat) : Prop := 141 ≤ k ∧ k ≤ 178
theorem xcs_fr {P : Nat → Bool} {σ τ : mS} {f : Int32} (fr : m_fr P σ τ) (hp : ∀ k, kX k → P k = false) : xcs σ τ f := ⟨fun k hk => mf_I fr (hp k (.inr (by omega))), fun x _ _ => by
  simp only [xt, xv]
  rw [mf_I fr (hp 364 (.inr (by omega))), mf_I fr (hp 347 (.inr (by omega))), mf_J fr (hp 365 (.inr (by omega)))]
  exact ⟨rfl, rfl⟩⟩
theorem mff_fr {Q : Nat → Bool} {μ τm : mS} (frm : m_fr Q μ τm) (hq : ∀ k, kM k → Q k = false) {k : Int32} {j : Nat} (hj : j < 10) : mff τm k j = mff μ k j := mf_I frm (hq _ ⟨by omega, by omega⟩)
theorem FLr_fr {P Q : Nat → Bool} {S : SR} {w w' : WD} {σ μ τ τm : mS} {bt k0 B0 n : Int32} {fl : List Int32} {ct : CT} (h : FL S w σ (mff μ) (sI μ 141) (sJ μ 142) bt k0 B0 fl n ct) (hk : kb k0 B0 n) (wl : wle w w') (hc : cds w σ τ) (fr : m_fr P σ τ) (frm : m_fr Q μ τm) (hp : ∀ k, kX k → P k = false) (hq : ∀ k, kM k → Q k = false) : FL S w' τ (mff τm) (sI τm 141) (sJ τm 142) bt k0 B0 fl n ct :=
  FL_cg h hk wl (fun _ _ => xcs_fr fr hp) hc (fun _ _ _ _ hj => mff_fr frm hq hj) (fun _ _ _ => ⟨mf_I frm (hq 141 ⟨by omega, by omega⟩), mf_J frm (hq 142 ⟨by omega, by omega⟩)⟩)
theorem UNr_fr {P Q : Nat → Bool} {S : SR} {w w' : WD} {σ μ τ τm : mS} {bt k0 B0 n : Int32} {fl : List Int32} (h : UN S w σ (mff μ) (sI μ 141) (sJ μ 142) bt k0 B0 fl n) (hk : kb k0 B0 n) (wl : wle w w') (hc : cds w σ τ) (fr : m_fr P σ τ) (frm : m_fr Q μ τm) (hp : ∀ k, kX k → P k = false) (hq : ∀ k, kM k → Q k = false) : UN S w' τ (mff τm) (sI τm 141) (sJ τm 142) bt k0 B0 fl n :=
  UN_cg (P := 2147483647) h hk wl (fun _ _ => xcs_fr fr hp) hc (fun _ _ _ _ hj => mff_fr frm hq hj) (fun _ _ _ => ⟨mf_I frm (hq 141 ⟨by omega, by omega⟩), mf_J frm (hq 142 ⟨by omega, by omega⟩)⟩) (fun k _ _ => by lia)
theorem LK_fr {P Q : Nat → Bool} {σ μ τ τm : mS} {k0 : Int32} (fr : m_fr P σ τ) (frm : m_fr Q μ τm) (hp : ∀ k, kX k → P k = false) (hq : ∀ k, kM k → Q k = false) (h257 : ∀ m, sI τ 257 m = sI σ 257 m) : ∀ {fl : List Int32} {n : Int32}, LK σ (mff μ) k0 fl n → LK τ (mff τm) k0 fl n
  | [], _, h => h
  | f :: fl, n, h => by
    obtain ⟨h1, h2, h3, h4⟩ := h
    have e0 : mff τm (n - 1) 0 = mff μ (n - 1) 0 := mff_fr frm hq (by omega)
    have e8 : mff τm (n - 1) 8 = mff μ (n - 1) 8 := mff_fr frm hq (by omega)
    refine ⟨h1, h2, ?_, LK_fr fr frm hp hq h257 h4⟩
    simp only [LE]
    rw [e0, e8, mf_I fr (hp 355 (.inr (by omega))), mf_I fr (hp 345 (.inr (by omega))), h257]
    exact h3
theorem lnH_fr {P : Nat → Bool} {σ τ : mS} (fr : m_fr P σ τ) (hp : ∀ k, kX k → P k = false) (h257 : ∀ m, sI τ 257 m = sI σ 257 m) : ∀ {fl : List Int32}, lnH τ fl = lnH σ fl
  | [] => rfl
  | f :: fl => by
    simp only [lnH]
    rw [mf_I fr (hp 355 (.inr (by omega))), mf_I fr (hp 345 (.inr (by omega))), h257, lnH_fr fr hp h257]
