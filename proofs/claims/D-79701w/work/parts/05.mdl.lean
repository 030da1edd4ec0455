set_option maxRecDepth 100000
/-! the reference's world: its object pp 0, its arrays all (pp 1), saved (pp 2), aside (pp 3), text (pp 4); v: row 0 its ints by field, rows 1-4 the arrays, 'seen' stands at v 1 170 -/
def u2 (v : Nat → Nat → Int32) (r k : Nat) (x : Int32) : Nat → Nat → Int32 := fun i j => if i = r then (if j = k then x else v i j) else v i j
theorem u2_s {v : Nat → Nat → Int32} {r k : Nat} {x : Int32} : u2 v r k x r k = x := by simp [u2]
theorem u2_k {v : Nat → Nat → Int32} {r k j : Nat} {x : Int32} (h : j ≠ k) : u2 v r k x r j = v r j := by simp [u2, h]
theorem u2_r {v : Nat → Nat → Int32} {r k i : Nat} {x : Int32} (h : i ≠ r) : u2 v r k x i = v i := by funext j; simp [u2, h]
def mdF (p : Nat → Nat) (v : Nat → Nat → Int32) : List Value := [.ref (p 1), .ref (p 2), .int (v 0 2), .ref (p 3), .int (v 1 170), .ref (p 4), .int (v 0 6), .int (v 0 7), .int (v 0 8), .int (v 0 9), .int (v 0 10), .int (v 0 11), .int (v 0 12)]
def mdLen (r : Nat) : Nat := match r with
  | 1 => 170
  | 2 => 680
  | 3 => 170
  | _ => 60
def Mdl (G : mg) (p : Nat → Nat) (M0 M : mh) (v : Nat → Nat → Int32) : Prop := (∀ i j, i < 5 → j < 5 → p i = p j → i = j) ∧ M (p 0) = some (.inr (3, mdF p v)) ∧ (∀ r, 1 ≤ r → r < 5 → ∃ h : Nat → Int32, M (p r) = some (.inl (G.1.1 100, mdLen r, .inl h)) ∧ ∀ j, j < mdLen r → h j = v r j) ∧ ∀ q, (∀ i, i < 5 → q ≠ p i) → M q = M0 q
theorem mdLen_lt (r : Nat) : mdLen r < 2 ^ 31 := by unfold mdLen; split <;> decide
theorem Mdl.setA {G : mg} {p : Nat → Nat} {M0 M : mh} {v v' : Nat → Nat → Int32} (h : Mdl G p M0 M v) {r : Nat} (h1 : 1 ≤ r) (h5 : r < 5) {g : Nat → Int32} (hg : ∀ j, j < mdLen r → g j = v' r j) (ho : ∀ i j, i < 5 → i ≠ r → (i = 0 ∨ j < mdLen i) → v' i j = v i j) (hs : v' 1 170 = v 1 170) : Mdl G p M0 (va_up M (p r) (some (.inl (G.1.1 100, mdLen r, .inl g)))) v' := by
  obtain ⟨a, b, c, d⟩ := h
  refine ⟨a, ?_, fun i i1 i5 => ?_, fun q hq => ?_⟩
  · have : p 0 ≠ p r := fun e => by have := a 0 r (by omega) h5 e; omega
    simp only [va_up, this, if_false, b]
    have e : mdF p v' = mdF p v := by
      have z : ∀ k, v' 0 k = v 0 k := fun k => ho 0 k (by omega) (by omega) (Or.inl rfl)
      simp [mdF, z, hs]
    rw [e]
  · by_cases hir : i = r
    · subst hir
      exact ⟨g, by simp [va_up], hg⟩
    · have : p i ≠ p r := fun e => hir (a i r i5 h5 e)
      obtain ⟨f, f1, f2⟩ := c i i1 i5
      exact ⟨f, by simp only [va_up, this, if_false, f1], fun j hj => (f2 j hj).trans (ho i j i5 hir (Or.inr hj)).symm⟩
  · have : q ≠ p r := hq r h5
    simp only [va_up, this, if_false]
    exact d q hq
theorem Mdl.setO {G : mg} {p : Nat → Nat} {M0 M : mh} {v v' : Nat → Nat → Int32} (h : Mdl G p M0 M v) {fs : List Value} (hf : fs = mdF p v') (ho : ∀ i j, 1 ≤ i → i < 5 → j < mdLen i → v' i j = v i j) : Mdl G p M0 (va_up M (p 0) (some (.inr (3, fs)))) v' := by
  obtain ⟨a, b, c, d⟩ := h
  refine ⟨a, by simp [va_up, hf], fun i i1 i5 => ?_, fun q hq => ?_⟩
  · have : p i ≠ p 0 := fun e => by have := a i 0 i5 (by omega) e; omega
    obtain ⟨f, f1, f2⟩ := c i i1 i5
    exact ⟨f, by simp only [va_up, this, if_false, f1], fun j hj => (f2 j hj).trans (ho i j i1 i5 hj).symm⟩
  · have : q ≠ p 0 := hq 0 (by omega)
    simp only [va_up, this, if_false]
    exact d q hq
section MDL
variable {p : Program} {l : Launch} {e : Env} {R : Room} {s : State} {m : MethodId} {args : Array Value} {below : List Frame} {meth : Method} {c : Code} {H : Heap} {locs : List Loc} {cells slots : Nat} {Q : State → Prop}
variable {G : mg} {A : Nat → Prop} {M M0 : mh} {cc : ByteArray} {nL pc : Nat} {ls : Array Slot} {rest : List Value} {pp : Nat → Nat} {v : Nat → Nat → Int32}
theorem md_ald (X : CallFix p m c cc nL s args lw_all "FieldPumpsModel") (w : mW G A s M H locs) (hM : Mdl G pp M0 M v) (r : Nat) (h1 : 1 ≤ r) (h5 : r < 5) (j : Nat) {x : Int32} (hx : x = nI j) (hj : j < mdLen r) (hdg : decode cc pc = .ok (.iaload, 1)) (kk : W p l e R s m args below meth c H locs cells slots Q (F0 m (pc + 1) ls (.int (v r j) :: rest))) : W p l e R s m args below meth c H locs cells slots Q (F0 m pc ls (.int x :: .ref (pp r) :: rest)) := by
  subst hx
  obtain ⟨f, f1, f2⟩ := hM.2.2.1 r h1 h5
  refine mx_iald X w f1 j hj (mdLen_lt r) hdg ?_
  rw [f2 j hj]
  exact kk
theorem md_ast (X : CallFix p m c cc nL s args lw_all "FieldPumpsModel") (w : mW G A s M H locs) (hM : Mdl G pp M0 M v) (r : Nat) (h1 : 1 ≤ r) (h5 : r < 5) (j : Nat) {y x : Int32} (hx : y = nI j) (hj : j < mdLen r) (hdg : decode cc pc = .ok (.iastore, 1)) (kk : ∀ (M1 : mh) (H1 : Heap) (locs1 : List Loc), mW G A s M1 H1 locs1 → Mdl G pp M0 M1 (u2 v r j x) → W p l e R s m args below meth c H1 locs1 cells slots Q (F0 m (pc + 1) ls rest)) : W p l e R s m args below meth c H locs cells slots Q (F0 m pc ls (.int x :: .int y :: .ref (pp r) :: rest)) := by
  subst hx
  obtain ⟨f, f1, f2⟩ := hM.2.2.1 r h1 h5
  refine mx_iast X w f1 j hj (mdLen_lt r) hdg fun H1 locs1 w1 => kk _ H1 locs1 w1 (hM.setA h1 h5 (fun i hi => ?_) (fun i k _ hir _ => by rw [u2_r hir]) ?_)
  · by_cases hij : i = j
    · subst hij; simp [upd, u2]
    · simp [upd, u2, hij, f2 i hi]
  · unfold u2
    have : ¬ (1 = r ∧ 170 = j) := fun ⟨q1, q2⟩ => by subst q1; subst q2; exact absurd hj (by decide)
    by_cases q1 : 1 = r
    · rw [if_pos q1, if_neg (fun q2 => this ⟨q1, q2⟩)]
    · rw [if_neg q1]
theorem md_put (X : CallFix p m c cc nL s args lw_all "FieldPumpsModel") (w : mW G A s M H locs) (hM : Mdl G pp M0 M v) (k : Nat) (hk : k < 13) {index : Nat} (hlink : Cond.fieldLink "FieldPumpsModel" index (TX4 k).1 (TX4 k).2.1 (TX4 k).2.2.1 ∈ lw_all) (hfin : (TX4 k).2.2.2 = false) (hty : tyX4 k = .int) {x : Int32} (hset : (mdF pp v).set k (.int x) = mdF pp (u2 v 0 k x)) (hdg : decode cc pc = .ok (.putfield index, 3)) (kk : ∀ (M1 : mh) (H1 : Heap) (locs1 : List Loc), mW G A s M1 H1 locs1 → Mdl G pp M0 M1 (u2 v 0 k x) → W p l e R s m args below meth c H1 locs1 cells slots Q (F0 m (pc + 3) ls rest)) : W p l e R s m args below meth c H locs cells slots Q (F0 m pc ls (.int x :: .ref (pp 0) :: rest)) :=
  mx_put X w in_X4 tyX4 tyX4_ok nmX4 rfl k hk hlink (fun _ h => h) hfin (by rw [hty]; rfl) (by rw [hty]; rfl) hM.2.1 hk hdg fun H1 locs1 w1 => kk _ H1 locs1 w1 (hM.setO hset (fun i j i1 _ _ => by rw [u2_r (by omega)]))
theorem md_putseen (X : CallFix p m c cc nL s args lw_all "FieldPumpsModel") (w : mW G A s M H locs) (hM : Mdl G pp M0 M v) {index : Nat} (hlink : Cond.fieldLink "FieldPumpsModel" index "FieldPumpsModel" "seen" "I" ∈ lw_all) {x : Int32} (hdg : decode cc pc = .ok (.putfield index, 3)) (kk : ∀ (M1 : mh) (H1 : Heap) (locs1 : List Loc), mW G A s M1 H1 locs1 → Mdl G pp M0 M1 (u2 v 1 170 x) → W p l e R s m args below meth c H1 locs1 cells slots Q (F0 m (pc + 3) ls rest)) : W p l e R s m args below meth c H locs cells slots Q (F0 m pc ls (.int x :: .ref (pp 0) :: rest)) :=
  mx_put X w in_X4 tyX4 tyX4_ok nmX4 rfl 4 (by decide) hlink (fun _ h => h) rfl rfl rfl hM.2.1 (show 4 < 13 by decide) hdg fun H1 locs1 w1 => kk _ H1 locs1 w1 (hM.setO rfl (fun i j i1 _ hj => by
    unfold u2
    by_cases q : i = 1
    · subst q
      rw [if_pos rfl, if_neg (fun e => by subst e; exact absurd hj (by decide))]
    · rw [if_neg q]))
end MDL
def tN (x : Int32) : Nat := x.toNatClampNeg
def nC (f : Nat → Int32) (k : Nat) : Nat := (f k).toNatClampNeg
def rg (x : Int32) (n : Nat) : Prop := ∃ j : Nat, j ≤ n ∧ x = nI j
def rgl (x : Int32) (lo hi : Nat) : Prop := ∃ j : Nat, lo ≤ j ∧ j ≤ hi ∧ x = nI j
theorem rg_n {x : Int32} {n : Nat} (h : rg x n) (hn : n < 2 ^ 31) : x = nI (tN x) ∧ tN x ≤ n := by
  obtain ⟨j, hj, rfl⟩ := h
  rw [show tN (nI j) = j from nI_clamp (by omega)]
  exact ⟨rfl, hj⟩
theorem rgl_n {x : Int32} {lo n : Nat} (h : rgl x lo n) (hn : n < 2 ^ 31) : x = nI (tN x) ∧ lo ≤ tN x ∧ tN x ≤ n := by
  obtain ⟨j, hl, hj, rfl⟩ := h
  rw [show tN (nI j) = j from nI_clamp (by omega)]
  exact ⟨rfl, hl, hj⟩
theorem tN_nI {n : Nat} (h : n < 2 ^ 31) : tN (nI n) = n := nI_clamp h
/-- a pump's number, or none -/
def isP (np : Nat) (x : Int32) : Prop := x = -1 ∨ ∃ j : Nat, j < np ∧ x = nI j
theorem isP_m1 {np : Nat} : isP np (-1) := Or.inl rfl
theorem isP_nI {np j : Nat} (h : j < np) : isP np (nI j) := Or.inr ⟨j, h, rfl⟩
theorem isP_n {np : Nat} {x : Int32} (h : isP np x) (c : ¬ x = -1) (hn : np ≤ 6) : x = nI (tN x) ∧ tN x < np := by
  rcases h with h | ⟨j, hj, rfl⟩
  · exact absurd h c
  · rw [tN_nI (by omega)]
    exact ⟨rfl, hj⟩
/-- a number that isn't a literal, as a natural number -/
theorem ne_n {x c : Int32} {n : Nat} (h : x = nI (tN x)) (hc : ¬ x = c) (e : c = nI n) : tN x ≠ n := fun q => hc (by rw [h, q, e])
theorem nC_of {f : Nat → Int32} {i n : Nat} (e : f i = nI n) (h : n < 2 ^ 31) : nC f i = n := by unfold nC; rw [e]; exact nI_clamp h
theorem rg_0 {n : Nat} : rg 0 n := ⟨0, Nat.zero_le _, rfl⟩
theorem rg_1 {n : Nat} (h : 1 ≤ n) : rg 1 n := ⟨1, h, rfl⟩
/-- the settings' ranges -/
def stLo (k : Nat) : Nat := match k with
  | 0 => 100 | 1 => 1 | 2 => 0 | 3 => 1 | 4 => 300 | 5 => 1 | 6 => 1 | 7 => 0 | 8 => 1 | 9 => 1 | 10 => 1 | 11 => 0 | 12 => 0 | 13 => 1 | 14 => 0 | 15 => 0 | 16 => 1 | 17 => 0 | _ => 0
def stHi (k : Nat) : Nat := match k with
  | 0 => 900 | 1 => 100 | 2 => 100 | 3 => 500 | 4 => 900 | 5 => 60 | 6 => 60 | 7 => 1000 | 8 => 60 | 9 => 300 | 10 => 200 | 11 => 10000 | 12 => 10000 | 13 => 60 | 14 => 1000 | 15 => 1439 | 16 => 600 | 17 => 100000 | _ => 1440
/-- what holds of a pump's number w -/
def pmR (T w : Nat) (x : Int32) : Prop := (w = 0 → rg x 2) ∧ (w = 1 → rgl x 100 2000) ∧ (w = 2 → rgl x 1 1000) ∧ (w = 3 → rg x 1) ∧ (w = 4 → rg x 1000)
/-- what holds of the state's place i: T the time, np pumps, nz zones, ng programmes -/
def okc (T np nz ng : Nat) (i : Nat) (x : Int32) : Prop :=
  (i = 0 → x = nI T) ∧ (i = 1 → rg x 2000) ∧ (i = 2 → rg x 20000) ∧ (i = 3 → rg x 20000) ∧ (i = 4 → isP np x) ∧ (i = 5 → rg x 1) ∧ (i = 6 → rg x T) ∧ (i = 14 → x = nI np) ∧ (i = 15 → x = nI nz) ∧ (i = 16 → x = nI ng) ∧ (i = 17 → rg x 1000) ∧ (i = 18 → rg x 7) ∧ (i = 19 → rg x 12) ∧
  (∀ k, k < 19 → i = 20 + k → rgl x (stLo k) (stHi k)) ∧ (∀ k w, k < np → w < 8 → i = 39 + (8 * k) + w → pmR T w x) ∧ (∀ k, k < 8 → i = 87 + (2 * k) + 1 → rg x 1 ∧ (nz ≤ k → x = 0)) ∧ (∀ k, k < nz → i = 87 + (2 * k) → rgl x 1 1000) ∧ (∀ k, k < ng → i = 103 + (3 * k) → ∃ j, j < nz ∧ x = nI j) ∧ (∀ k, k < ng → i = 103 + (3 * k) + 1 → rg x 1439) ∧ (∀ k, k < ng → i = 103 + (3 * k) + 2 → rg x 1439)
def IP (T np nz ng : Nat) (f : Nat → Int32) : Prop := (T ≤ 1000000 ∧ np ≤ 6 ∧ nz ≤ 8 ∧ ng ≤ 8) ∧ ∀ i, okc T np nz ng i (f i)
section IPS
variable {T np nz ng : Nat} {f : Nat → Int32}
theorem IP.n6 (h : IP T np nz ng f) : np ≤ 6 := h.1.2.1
theorem IP.z8 (h : IP T np nz ng f) : nz ≤ 8 := h.1.2.2.1
theorem IP.g8 (h : IP T np nz ng f) : ng ≤ 8 := h.1.2.2.2
theorem IP.time (h : IP T np nz ng f) : f 0 = nI T := (h.2 0).1 rfl
theorem IP.press (h : IP T np nz ng f) : rg (f 1) 2000 := (h.2 1).2.1 rfl
theorem IP.level (h : IP T np nz ng f) : rg (f 2) 20000 := (h.2 2).2.2.1 rfl
theorem IP.supply (h : IP T np nz ng f) : rg (f 3) 20000 := (h.2 3).2.2.2.1 rfl
theorem IP.var (h : IP T np nz ng f) : isP np (f 4) := (h.2 4).2.2.2.2.1 rfl
theorem IP.dry (h : IP T np nz ng f) : rg (f 5) 1 := (h.2 5).2.2.2.2.2.1 rfl
theorem IP.trips (h : IP T np nz ng f) : rg (f 6) T := (h.2 6).2.2.2.2.2.2.1 rfl
theorem IP.enp (h : IP T np nz ng f) : f 14 = nI np := (h.2 14).2.2.2.2.2.2.2.1 rfl
theorem IP.enz (h : IP T np nz ng f) : f 15 = nI nz := (h.2 15).2.2.2.2.2.2.2.2.1 rfl
theorem IP.eng (h : IP T np nz ng f) : f 16 = nI ng := (h.2 16).2.2.2.2.2.2.2.2.2.1 rfl
theorem IP.leak (h : IP T np nz ng f) : rg (f 17) 1000 := (h.2 17).2.2.2.2.2.2.2.2.2.2.1 rfl
theorem IP.nn (h : IP T np nz ng f) : rg (f 18) 7 := (h.2 18).2.2.2.2.2.2.2.2.2.2.2.1 rfl
theorem IP.ne (h : IP T np nz ng f) : rg (f 19) 12 := (h.2 19).2.2.2.2.2.2.2.2.2.2.2.2.1 rfl
theorem IP.set (h : IP T np nz ng f) {k : Nat} (hk : k < 19) : rgl (f (20 + k)) (stLo k) (stHi k) := (h.2 (20 + k)).2.2.2.2.2.2.2.2.2.2.2.2.2.1 k hk rfl
theorem IP.pump (h : IP T np nz ng f) {k w : Nat} (hk : k < np) (hw : w < 8) : pmR T w (f (39 + (8 * k) + w)) := (h.2 (39 + (8 * k) + w)).2.2.2.2.2.2.2.2.2.2.2.2.2.2.1 k w hk hw rfl
theorem IP.opn (h : IP T np nz ng f) {k : Nat} (hk : k < 8) : rg (f (87 + (2 * k) + 1)) 1 ∧ (nz ≤ k → f (87 + (2 * k) + 1) = 0) := (h.2 (87 + (2 * k) + 1)).2.2.2.2.2.2.2.2.2.2.2.2.2.2.2.1 k hk rfl
theorem IP.demand (h : IP T np nz ng f) {k : Nat} (hk : k < nz) : rgl (f (87 + (2 * k))) 1 1000 := (h.2 (87 + (2 * k))).2.2.2.2.2.2.2.2.2.2.2.2.2.2.2.2.1 k hk rfl
theorem IP.pz (h : IP T np nz ng f) {k : Nat} (hk : k < ng) : ∃ j, j < nz ∧ f (103 + (3 * k)) = nI j := (h.2 (103 + (3 * k))).2.2.2.2.2.2.2.2.2.2.2.2.2.2.2.2.2.1 k hk rfl
theorem IP.pf (h : IP T np nz ng f) {k : Nat} (hk : k < ng) : rg (f (103 + (3 * k) + 1)) 1439 := (h.2 (103 + (3 * k) + 1)).2.2.2.2.2.2.2.2.2.2.2.2.2.2.2.2.2.2.1 k hk rfl
theorem IP.pt (h : IP T np nz ng f) {k : Nat} (hk : k < ng) : rg (f (103 + (3 * k) + 2)) 1439 := (h.2 (103 + (3 * k) + 2)).2.2.2.2.2.2.2.2.2.2.2.2.2.2.2.2.2.2.2 k hk rfl
theorem IP.cap (h : IP T np nz ng f) : ¬ f 30 = 0 := fun e => by
  obtain ⟨j, j1, j2, j3⟩ := h.set (k := 10) (by decide)
  have j4 : f 30 = nI j := j3
  rw [e] at j4
  have j5 : j ≤ 200 := j2
  have j6 : 1 ≤ j := j1
  exact nI_ne0 (by omega) (by omega) j4.symm
theorem IP.cp (h : IP T np nz ng f) : nC f 14 = np := by unfold nC; rw [h.enp]; exact nI_clamp (by have := h.n6; omega)
theorem IP.cz (h : IP T np nz ng f) : nC f 15 = nz := by unfold nC; rw [h.enz]; exact nI_clamp (by have := h.z8; omega)
theorem IP.cg (h : IP T np nz ng f) : nC f 16 = ng := by unfold nC; rw [h.eng]; exact nI_clamp (by have := h.g8; omega)
theorem IP.cn (h : IP T np nz ng f) : f 18 = nI (nC f 18) ∧ nC f 18 ≤ 7 := rg_n h.nn (by decide)
theorem IP.ce (h : IP T np nz ng f) : f 19 = nI (nC f 19) ∧ nC f 19 ≤ 12 := rg_n h.ne (by decide)
theorem IP.pzn (h : IP T np nz ng f) {k : Nat} (hk : k < ng) : f (103 + (3 * k)) = nI (tN (f (103 + (3 * k)))) ∧ tN (f (103 + (3 * k))) < nz := by
  obtain ⟨j, hj, e⟩ := h.pz hk
  rw [e, tN_nI (by have := h.z8; omega)]
  exact ⟨rfl, hj⟩
/-- only some places have changed, and they are well -/
theorem IP.to {T' np' nz' ng' : Nat} {f' : Nat → Int32} (h : IP T np nz ng f) (hb : T' ≤ 1000000 ∧ np' ≤ 6 ∧ nz' ≤ 8 ∧ ng' ≤ 8) (hf : ∀ i, okc T np nz ng i (f i) → okc T' np' nz' ng' i (f' i)) : IP T' np' nz' ng' f' := ⟨hb, fun i => hf i (h.2 i)⟩
theorem IP.at (h : IP T np nz ng f) {f' : Nat → Int32} (hf : ∀ i, f' i = f i ∨ okc T np nz ng i (f' i)) : IP T np nz ng f' := ⟨h.1, fun i => by
  rcases hf i with e | e
  · rw [e]; exact h.2 i
  · exact e⟩
theorem IP.up {v : Nat → Nat → Int32} {i : Nat} {x : Int32} (h : IP T np nz ng (v 1)) (hx : okc T np nz ng i x) : IP T np nz ng (u2 v 1 i x 1) := h.at fun j => by
  by_cases e : j = i
  · subst e; exact Or.inr (by rw [u2_s]; exact hx)
  · exact Or.inl (u2_k e)
/-- a place of which nothing is said -/
theorem okc_free {i : Nat} {x : Int32} (hb : np ≤ 6 ∧ nz ≤ 8 ∧ ng ≤ 8) (h : (7 ≤ i ∧ i ≤ 13) ∨ 127 ≤ i) : okc T np nz ng i x := ⟨fun e => absurd e (by omega), fun e => absurd e (by omega), fun e => absurd e (by omega), fun e => absurd e (by omega), fun e => absurd e (by omega), fun e => absurd e (by omega), fun e => absurd e (by omega), fun e => absurd e (by omega), fun e => absurd e (by omega), fun e => absurd e (by omega), fun e => absurd e (by omega), fun e => absurd e (by omega), fun e => absurd e (by omega), fun k' hk' e => absurd e (by omega), fun k' w' hk' hw' e => absurd e (by omega), fun k' hk' e => absurd e (by omega), fun k' hk' e => absurd e (by omega), fun k' hk' e => absurd e (by omega), fun k' hk' e => absurd e (by omega), fun k' hk' e => absurd e (by omega)⟩
theorem okc_0 {x : Int32} (hb : np ≤ 6 ∧ nz ≤ 8 ∧ ng ≤ 8) (h : x = nI T) : okc T np nz ng 0 x := ⟨fun _ => h, fun e => absurd e (by omega), fun e => absurd e (by omega), fun e => absurd e (by omega), fun e => absurd e (by omega), fun e => absurd e (by omega), fun e => absurd e (by omega), fun e => absurd e (by omega), fun e => absurd e (by omega), fun e => absurd e (by omega), fun e => absurd e (by omega), fun e => absurd e (by omega), fun e => absurd e (by omega), fun k' hk' e => absurd e (by omega), fun k' w' hk' hw' e => absurd e (by omega), fun k' hk' e => absurd e (by omega), fun k' hk' e => absurd e (by omega), fun k' hk' e => absurd e (by omega), fun k' hk' e => absurd e (by omega), fun k' hk' e => absurd e (by omega)⟩
theorem okc_1 {x : Int32} (hb : np ≤ 6 ∧ nz ≤ 8 ∧ ng ≤ 8) (h : rg x 2000) : okc T np nz ng 1 x := ⟨fun e => absurd e (by omega), fun _ => h, fun e => absurd e (by omega), fun e => absurd e (by omega), fun e => absurd e (by omega), fun e => absurd e (by omega), fun e => absurd e (by omega), fun e => absurd e (by omega), fun e => absurd e (by omega), fun e => absurd e (by omega), fun e => absurd e (by omega), fun e => absurd e (by omega), fun e => absurd e (by omega), fun k' hk' e => absurd e (by omega), fun k' w' hk' hw' e => absurd e (by omega), fun k' hk' e => absurd e (by omega), fun k' hk' e => absurd e (by omega), fun k' hk' e => absurd e (by omega), fun k' hk' e => absurd e (by omega), fun k' hk' e => absurd e (by omega)⟩
theorem okc_2 {x : Int32} (hb : np ≤ 6 ∧ nz ≤ 8 ∧ ng ≤ 8) (h : rg x 20000) : okc T np nz ng 2 x := ⟨fun e => absurd e (by omega), fun e => absurd e (by omega), fun _ => h, fun e => absurd e (by omega), fun e => absurd e (by omega), fun e => absurd e (by omega), fun e => absurd e (by omega), fun e => absurd e (by omega), fun e => absurd e (by omega), fun e => absurd e (by omega), fun e => absurd e (by omega), fun e => absurd e (by omega), fun e => absurd e (by omega), fun k' hk' e => absurd e (by omega), fun k' w' hk' hw' e => absurd e (by omega), fun k' hk' e => absurd e (by omega), fun k' hk' e => absurd e (by omega), fun k' hk' e => absurd e (by omega), fun k' hk' e => absurd e (by omega), fun k' hk' e => absurd e (by omega)⟩
theorem okc_3 {x : Int32} (hb : np ≤ 6 ∧ nz ≤ 8 ∧ ng ≤ 8) (h : rg x 20000) : okc T np nz ng 3 x := ⟨fun e => absurd e (by omega), fun e => absurd e (by omega), fun e => absurd e (by omega), fun _ => h, fun e => absurd e (by omega), fun e => absurd e (by omega), fun e => absurd e (by omega), fun e => absurd e (by omega), fun e => absurd e (by omega), fun e => absurd e (by omega), fun e => absurd e (by omega), fun e => absurd e (by omega), fun e => absurd e (by omega), fun k' hk' e => absurd e (by omega), fun k' w' hk' hw' e => absurd e (by omega), fun k' hk' e => absurd e (by omega), fun k' hk' e => absurd e (by omega), fun k' hk' e => absurd e (by omega), fun k' hk' e => absurd e (by omega), fun k' hk' e => absurd e (by omega)⟩
theorem okc_4 {x : Int32} (hb : np ≤ 6 ∧ nz ≤ 8 ∧ ng ≤ 8) (h : isP np x) : okc T np nz ng 4 x := ⟨fun e => absurd e (by omega), fun e => absurd e (by omega), fun e => absurd e (by omega), fun e => absurd e (by omega), fun _ => h, fun e => absurd e (by omega), fun e => absurd e (by omega), fun e => absurd e (by omega), fun e => absurd e (by omega), fun e => absurd e (by omega), fun e => absurd e (by omega), fun e => absurd e (by omega), fun e => absurd e (by omega), fun k' hk' e => absurd e (by omega), fun k' w' hk' hw' e => absurd e (by omega), fun k' hk' e => absurd e (by omega), fun k' hk' e => absurd e (by omega), fun k' hk' e => absurd e (by omega), fun k' hk' e => absurd e (by omega), fun k' hk' e => absurd e (by omega)⟩
theorem okc_5 {x : Int32} (hb : np ≤ 6 ∧ nz ≤ 8 ∧ ng ≤ 8) (h : rg x 1) : okc T np nz ng 5 x := ⟨fun e => absurd e (by omega), fun e => absurd e (by omega), fun e => absurd e (by omega), fun e => absurd e (by omega), fun e => absurd e (by omega), fun _ => h, fun e => absurd e (by omega), fun e => absurd e (by omega), fun e => absurd e (by omega), fun e => absurd e (by omega), fun e => absurd e (by omega), fun e => absurd e (by omega), fun e => absurd e (by omega), fun k' hk' e => absurd e (by omega), fun k' w' hk' hw' e => absurd e (by omega), fun k' hk' e => absurd e (by omega), fun k' hk' e => absurd e (by omega), fun k' hk' e => absurd e (by omega), fun k' hk' e => absurd e (by omega), fun k' hk' e => absurd e (by omega)⟩
theorem okc_6 {x : Int32} (hb : np ≤ 6 ∧ nz ≤ 8 ∧ ng ≤ 8) (h : rg x T) : okc T np nz ng 6 x := ⟨fun e => absurd e (by omega), fun e => absurd e (by omega), fun e => absurd e (by omega), fun e => absurd e (by omega), fun e => absurd e (by omega), fun e => absurd e (by omega), fun _ => h, fun e => absurd e (by omega), fun e => absurd e (by omega), fun e => absurd e (by omega), fun e => absurd e (by omega), fun e => absurd e (by omega), fun e => absurd e (by omega), fun k' hk' e => absurd e (by omega), fun k' w' hk' hw' e => absurd e (by omega), fun k' hk' e => absurd e (by omega), fun k' hk' e => absurd e (by omega), fun k' hk' e => absurd e (by omega), fun k' hk' e => absurd e (by omega), fun k' hk' e => absurd e (by omega)⟩
theorem okc_14 {x : Int32} (hb : np ≤ 6 ∧ nz ≤ 8 ∧ ng ≤ 8) (h : x = nI np) : okc T np nz ng 14 x := ⟨fun e => absurd e (by omega), fun e => absurd e (by omega), fun e => absurd e (by omega), fun e => absurd e (by omega), fun e => absurd e (by omega), fun e => absurd e (by omega), fun e => absurd e (by omega), fun _ => h, fun e => absurd e (by omega), fun e => absurd e (by omega), fun e => absurd e (by omega), fun e => absurd e (by omega), fun e => absurd e (by omega), fun k' hk' e => absurd e (by omega), fun k' w' hk' hw' e => absurd e (by omega), fun k' hk' e => absurd e (by omega), fun k' hk' e => absurd e (by omega), fun k' hk' e => absurd e (by omega), fun k' hk' e => absurd e (by omega), fun k' hk' e => absurd e (by omega)⟩
theorem okc_15 {x : Int32} (hb : np ≤ 6 ∧ nz ≤ 8 ∧ ng ≤ 8) (h : x = nI nz) : okc T np nz ng 15 x := ⟨fun e => absurd e (by omega), fun e => absurd e (by omega), fun e => absurd e (by omega), fun e => absurd e (by omega), fun e => absurd e (by omega), fun e => absurd e (by omega), fun e => absurd e (by omega), fun e => absurd e (by omega), fun _ => h, fun e => absurd e (by omega), fun e => absurd e (by omega), fun e => absurd e (by omega), fun e => absurd e (by omega), fun k' hk' e => absurd e (by omega), fun k' w' hk' hw' e => absurd e (by omega), fun k' hk' e => absurd e (by omega), fun k' hk' e => absurd e (by omega), fun k' hk' e => absurd e (by omega), fun k' hk' e => absurd e (by omega), fun k' hk' e => absurd e (by omega)⟩
theorem okc_16 {x : Int32} (hb : np ≤ 6 ∧ nz ≤ 8 ∧ ng ≤ 8) (h : x = nI ng) : okc T np nz ng 16 x := ⟨fun e => absurd e (by omega), fun e => absurd e (by omega), fun e => absurd e (by omega), fun e => absurd e (by omega), fun e => absurd e (by omega), fun e => absurd e (by omega), fun e => absurd e (by omega), fun e => absurd e (by omega), fun e => absurd e (by omega), fun _ => h, fun e => absurd e (by omega), fun e => absurd e (by omega), fun e => absurd e (by omega), fun k' hk' e => absurd e (by omega), fun k' w' hk' hw' e => absurd e (by omega), fun k' hk' e => absurd e (by omega), fun k' hk' e => absurd e (by omega), fun k' hk' e => absurd e (by omega), fun k' hk' e => absurd e (by omega), fun k' hk' e => absurd e (by omega)⟩
theorem okc_17 {x : Int32} (hb : np ≤ 6 ∧ nz ≤ 8 ∧ ng ≤ 8) (h : rg x 1000) : okc T np nz ng 17 x := ⟨fun e => absurd e (by omega), fun e => absurd e (by omega), fun e => absurd e (by omega), fun e => absurd e (by omega), fun e => absurd e (by omega), fun e => absurd e (by omega), fun e => absurd e (by omega), fun e => absurd e (by omega), fun e => absurd e (by omega), fun e => absurd e (by omega), fun _ => h, fun e => absurd e (by omega), fun e => absurd e (by omega), fun k' hk' e => absurd e (by omega), fun k' w' hk' hw' e => absurd e (by omega), fun k' hk' e => absurd e (by omega), fun k' hk' e => absurd e (by omega), fun k' hk' e => absurd e (by omega), fun k' hk' e => absurd e (by omega), fun k' hk' e => absurd e (by omega)⟩
theorem okc_18 {x : Int32} (hb : np ≤ 6 ∧ nz ≤ 8 ∧ ng ≤ 8) (h : rg x 7) : okc T np nz ng 18 x := ⟨fun e => absurd e (by omega), fun e => absurd e (by omega), fun e => absurd e (by omega), fun e => absurd e (by omega), fun e => absurd e (by omega), fun e => absurd e (by omega), fun e => absurd e (by omega), fun e => absurd e (by omega), fun e => absurd e (by omega), fun e => absurd e (by omega), fun e => absurd e (by omega), fun _ => h, fun e => absurd e (by omega), fun k' hk' e => absurd e (by omega), fun k' w' hk' hw' e => absurd e (by omega), fun k' hk' e => absurd e (by omega), fun k' hk' e => absurd e (by omega), fun k' hk' e => absurd e (by omega), fun k' hk' e => absurd e (by omega), fun k' hk' e => absurd e (by omega)⟩
theorem okc_19 {x : Int32} (hb : np ≤ 6 ∧ nz ≤ 8 ∧ ng ≤ 8) (h : rg x 12) : okc T np nz ng 19 x := ⟨fun e => absurd e (by omega), fun e => absurd e (by omega), fun e => absurd e (by omega), fun e => absurd e (by omega), fun e => absurd e (by omega), fun e => absurd e (by omega), fun e => absurd e (by omega), fun e => absurd e (by omega), fun e => absurd e (by omega), fun e => absurd e (by omega), fun e => absurd e (by omega), fun e => absurd e (by omega), fun _ => h, fun k' hk' e => absurd e (by omega), fun k' w' hk' hw' e => absurd e (by omega), fun k' hk' e => absurd e (by omega), fun k' hk' e => absurd e (by omega), fun k' hk' e => absurd e (by omega), fun k' hk' e => absurd e (by omega), fun k' hk' e => absurd e (by omega)⟩
theorem okc_set {k : Nat} {x : Int32} (hb : np ≤ 6 ∧ nz ≤ 8 ∧ ng ≤ 8) (hk : k < 19) (h : rgl x (stLo k) (stHi k)) : okc T np nz ng (20 + k) x := ⟨fun e => absurd e (by omega), fun e => absurd e (by omega), fun e => absurd e (by omega), fun e => absurd e (by omega), fun e => absurd e (by omega), fun e => absurd e (by omega), fun e => absurd e (by omega), fun e => absurd e (by omega), fun e => absurd e (by omega), fun e => absurd e (by omega), fun e => absurd e (by omega), fun e => absurd e (by omega), fun e => absurd e (by omega), fun k' _ e => (show k = k' by omega) ▸ h, fun k' w' hk' hw' e => absurd e (by omega), fun k' hk' e => absurd e (by omega), fun k' hk' e => absurd e (by omega), fun k' hk' e => absurd e (by omega), fun k' hk' e => absurd e (by omega), fun k' hk' e => absurd e (by omega)⟩
theorem okc_pump {k w : Nat} {x : Int32} (hb : np ≤ 6 ∧ nz ≤ 8 ∧ ng ≤ 8) (hk : k < 6) (hw : w < 8) (h : k < np → pmR T w x) : okc T np nz ng (39 + (8 * k) + w) x := ⟨fun e => absurd e (by omega), fun e => absurd e (by omega), fun e => absurd e (by omega), fun e => absurd e (by omega), fun e => absurd e (by omega), fun e => absurd e (by omega), fun e => absurd e (by omega), fun e => absurd e (by omega), fun e => absurd e (by omega), fun e => absurd e (by omega), fun e => absurd e (by omega), fun e => absurd e (by omega), fun e => absurd e (by omega), fun k' hk' e => absurd e (by omega), fun k' w' hk' hw' e => by
  obtain ⟨rfl, rfl⟩ : k' = k ∧ w' = w := by omega
  exact h hk', fun k' hk' e => absurd e (by omega), fun k' hk' e => absurd e (by omega), fun k' hk' e => absurd e (by omega), fun k' hk' e => absurd e (by omega), fun k' hk' e => absurd e (by omega)⟩
theorem okc_open {k : Nat} {x : Int32} (hb : np ≤ 6 ∧ nz ≤ 8 ∧ ng ≤ 8) (hk : k < 8) (h : rg x 1 ∧ (nz ≤ k → x = 0)) : okc T np nz ng (87 + (2 * k) + 1) x := ⟨fun e => absurd e (by omega), fun e => absurd e (by omega), fun e => absurd e (by omega), fun e => absurd e (by omega), fun e => absurd e (by omega), fun e => absurd e (by omega), fun e => absurd e (by omega), fun e => absurd e (by omega), fun e => absurd e (by omega), fun e => absurd e (by omega), fun e => absurd e (by omega), fun e => absurd e (by omega), fun e => absurd e (by omega), fun k' hk' e => absurd e (by omega), fun k' w' hk' hw' e => absurd e (by omega), fun k' _ e => (show k = k' by omega) ▸ h, fun k' hk' e => absurd e (by omega), fun k' hk' e => absurd e (by omega), fun k' hk' e => absurd e (by omega), fun k' hk' e => absurd e (by omega)⟩
theorem okc_dem {k : Nat} {x : Int32} (hb : np ≤ 6 ∧ nz ≤ 8 ∧ ng ≤ 8) (hk : k < 8) (h : k < nz → rgl x 1 1000) : okc T np nz ng (87 + (2 * k)) x := ⟨fun e => absurd e (by omega), fun e => absurd e (by omega), fun e => absurd e (by omega), fun e => absurd e (by omega), fun e => absurd e (by omega), fun e => absurd e (by omega), fun e => absurd e (by omega), fun e => absurd e (by omega), fun e => absurd e (by omega), fun e => absurd e (by omega), fun e => absurd e (by omega), fun e => absurd e (by omega), fun e => absurd e (by omega), fun k' hk' e => absurd e (by omega), fun k' w' hk' hw' e => absurd e (by omega), fun k' hk' e => absurd e (by omega), fun k' hk' e => h (by omega), fun k' hk' e => absurd e (by omega), fun k' hk' e => absurd e (by omega), fun k' hk' e => absurd e (by omega)⟩
theorem okc_pz {k : Nat} {x : Int32} (hb : np ≤ 6 ∧ nz ≤ 8 ∧ ng ≤ 8) (hk : k < 8) (h : k < ng → ∃ j, j < nz ∧ x = nI j) : okc T np nz ng (103 + (3 * k)) x := ⟨fun e => absurd e (by omega), fun e => absurd e (by omega), fun e => absurd e (by omega), fun e => absurd e (by omega), fun e => absurd e (by omega), fun e => absurd e (by omega), fun e => absurd e (by omega), fun e => absurd e (by omega), fun e => absurd e (by omega), fun e => absurd e (by omega), fun e => absurd e (by omega), fun e => absurd e (by omega), fun e => absurd e (by omega), fun k' hk' e => absurd e (by omega), fun k' w' hk' hw' e => absurd e (by omega), fun k' hk' e => absurd e (by omega), fun k' hk' e => absurd e (by omega), fun k' hk' e => h (by omega), fun k' hk' e => absurd e (by omega), fun k' hk' e => absurd e (by omega)⟩
theorem okc_pf {k : Nat} {x : Int32} (hb : np ≤ 6 ∧ nz ≤ 8 ∧ ng ≤ 8) (hk : k < 8) (h : k < ng → rg x 1439) : okc T np nz ng (103 + (3 * k) + 1) x := ⟨fun e => absurd e (by omega), fun e => absurd e (by omega), fun e => absurd e (by omega), fun e => absurd e (by omega), fun e => absurd e (by omega), fun e => absurd e (by omega), fun e => absurd e (by omega), fun e => absurd e (by omega), fun e => absurd e (by omega), fun e => absurd e (by omega), fun e => absurd e (by omega), fun e => absurd e (by omega), fun e => absurd e (by omega), fun k' hk' e => absurd e (by omega), fun k' w' hk' hw' e => absurd e (by omega), fun k' hk' e => absurd e (by omega), fun k' hk' e => absurd e (by omega), fun k' hk' e => absurd e (by omega), fun k' hk' e => h (by omega), fun k' hk' e => absurd e (by omega)⟩
theorem okc_pt {k : Nat} {x : Int32} (hb : np ≤ 6 ∧ nz ≤ 8 ∧ ng ≤ 8) (hk : k < 8) (h : k < ng → rg x 1439) : okc T np nz ng (103 + (3 * k) + 2) x := ⟨fun e => absurd e (by omega), fun e => absurd e (by omega), fun e => absurd e (by omega), fun e => absurd e (by omega), fun e => absurd e (by omega), fun e => absurd e (by omega), fun e => absurd e (by omega), fun e => absurd e (by omega), fun e => absurd e (by omega), fun e => absurd e (by omega), fun e => absurd e (by omega), fun e => absurd e (by omega), fun e => absurd e (by omega), fun k' hk' e => absurd e (by omega), fun k' w' hk' hw' e => absurd e (by omega), fun k' hk' e => absurd e (by omega), fun k' hk' e => absurd e (by omega), fun k' hk' e => absurd e (by omega), fun k' hk' e => absurd e (by omega), fun k' hk' e => h (by omega)⟩
theorem IP.b (h : IP T np nz ng f) : np ≤ 6 ∧ nz ≤ 8 ∧ ng ≤ 8 := ⟨h.n6, h.z8, h.g8⟩
/-- what a flow asks -/
def FlowOk (v : Nat → Nat → Int32) (k : Nat) (speed pressure : Int32) : Prop := ∃ sp pr sh st : Nat, speed = nI sp ∧ sp ≤ 1000 ∧ pressure = nI pr ∧ pr ≤ 2000 ∧ v 1 (39 + (8 * k) + 1) = nI sh ∧ sh ≤ 2000 ∧ v 1 (39 + (8 * k) + 2) = nI st ∧ 1 ≤ st ∧ st ≤ 1000
theorem IP.flow {v : Nat → Nat → Int32} (h : IP T np nz ng (v 1)) {k : Nat} (hk : k < np) {speed pressure : Int32} (h1 : rg speed 1000) (h2 : rg pressure 2000) : FlowOk v k speed pressure := by
  obtain ⟨sp, a1, a2⟩ := h1
  obtain ⟨pr, b1, b2⟩ := h2
  obtain ⟨sh, -, c1, c2⟩ := (h.pump hk (w := 1) (by decide)).2.1 rfl
  obtain ⟨st, d0, d1, d2⟩ := (h.pump hk (w := 2) (by decide)).2.2.1 rfl
  exact ⟨sp, pr, sh, st, a2, a1, b2, b1, c2, c1, d2, d0, d1⟩
end IPS
