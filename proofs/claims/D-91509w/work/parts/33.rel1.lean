set_option maxRecDepth 100000
/-! ===== how WindGas keeps the data (X..), how the model does (R..) ===== -/
def rdSk (M : Mem) (c : Nat) : Sk := mkSk (M.i 769 c) (M.i 770 c) (M.i 771 c) (M.i 772 c) (M.i 775 c) (M.i 773 c) (M.i 774 c) (M.l 776 c)
def XS (x : Nat) (M : Mem) (stk : List Sk) : Prop := (M.ls (x + 17)).map (rdSk M) = stk ∧ (∀ c ∈ M.ls (x + 17), M.k c = 7) ∧ (M.ls (x + 17)).Nodup ∧ ∀ j (h : j < (M.ls (x + 17)).length), M.i 768 (M.ls (x + 17))[j] = Int32.ofNat j
def RS (S : MS) (now : Nat) (stk : List Sk) : Prop := S.i 1 = Int32.ofNat stk.length ∧ stk.length ≤ 4 ∧
  (∀ j (h : j < stk.length), S.a 5 j = stk[j].size ∧ S.a 6 j = stk[j].gives ∧ S.a 7 j = stk[j].dirt ∧ S.a 8 j = stk[j].wear ∧ S.a 12 j = stk[j].on ∧ S.a 11 j = stk[j].ever ∧ S.b 13 j = stk[j].made ∧ (if 0 < now ∧ S.a 9 j = Int32.ofNat ((now - 1) / 144) then S.a 10 j else 0) = stk[j].today ∧ (S.a 9 j).toInt < ((now + 143) / 144 : Nat)) ∧
  ∀ j, stk.length ≤ j → j < 4 → S.a 8 j = 0 ∧ S.a 10 j = 0 ∧ S.a 11 j = 0 ∧ S.a 12 j = 0 ∧ S.b 13 j = 0
def rdLt (M : Mem) (c : Nat) : Tri := (M.i 1024 c, M.i 1025 c, M.i 1026 c)
/-- the store s (0 tubes, 1 cavern) -/
def XG1 (x : Nat) (M : Mem) (s : Nat) (so : So) : Prop := (M.ls (x + 14 + 2 * s)).map (rdLt M) = so.lots ∧ (∀ c ∈ M.ls (x + 14 + 2 * s), M.k c = 9) ∧ (M.ls (x + 14 + 2 * s)).Nodup ∧ M.i 385 (x + 13 + 2 * s) = so.room ∧ M.i 386 (x + 13 + 2 * s) = so.leak ∧ M.i 387 (x + 13 + 2 * s) = so.breath ∧ M.i 388 (x + 13 + 2 * s) = so.grams ∧ M.l 391 (x + 13 + 2 * s) = so.leaked ∧ M.l 392 (x + 13 + 2 * s) = so.lost
def XG (x : Nat) (M : Mem) (so : Nat → So) : Prop := XG1 x M 0 (so 0) ∧ XG1 x M 1 (so 1) ∧ ∀ c, c ∈ M.ls (x + 14) → c ∈ M.ls (x + 16) → False
def sumF (l : List Tri) : Int32 := l.foldl (fun v e => v + e.2.2) 0
def RG1 (S : MS) (s : Nat) (so : So) : Prop := S.a 15 s = so.room ∧ S.a 16 s = so.leak ∧ S.a 17 s = so.breath ∧ S.a 18 s = so.grams ∧ S.a 19 s = sumF so.lots ∧ S.a 20 s = Int32.ofNat so.lots.length ∧ S.b 22 s = so.leaked ∧ S.b 23 s = so.lost ∧
  ∃ o, S.a 21 s = Int32.ofNat o ∧ (so.lots.length = 0 → o = 0) ∧ o + so.lots.length ≤ 834 ∧ ∀ j (h : j < so.lots.length), S.a 24 (840 * s + (o + j)) = so.lots[j].1 ∧ S.a 25 (840 * s + (o + j)) = so.lots[j].2.1 ∧ S.a 26 (840 * s + (o + j)) = so.lots[j].2.2 ∧ ((o + j : Nat) : Int) ≤ (so.lots[j].1).toInt
def RG (S : MS) (so : Nat → So) : Prop := RG1 S 0 (so 0) ∧ RG1 S 1 (so 1)
def rdSp (M : Mem) (c : Nat) : Int32 × Int32 := (M.i 1152 c, M.i 1153 c)
def rdTp (M : Mem) (c : Nat) : Tp := mkTp (M.i 896 c) (M.i 897 c) (M.i 898 c) (M.i 900 c) (M.i 901 c) (M.i 902 c) ((M.ls (c + 1)).map (rdSp M))
def XP (x : Nat) (M : Mem) (tp : List Tp) : Prop := (M.ls (x + 23)).map (rdTp M) = tp ∧ (M.ls (x + 23)).Nodup ∧ ∀ c ∈ M.ls (x + 23), M.k c = 8 ∧ M.r 899 c = c + 1 ∧ M.k (c + 1) = 18 ∧ x + 88 < c ∧ ∀ e ∈ M.ls (c + 1), M.k e = 10
/-- what was drunk of an hour's gas -/
def drunkAt (l : List (Int32 × Int32)) (h : Int32) : Int32 := l.foldl (fun v e => if e.1 = h then v + e.2 else v) 0
def RP (S : MS) (tp : List Tp) : Prop := S.i 2 = Int32.ofNat tp.length ∧ tp.length ≤ 40 ∧
  (∀ j (h : j < tp.length), S.a 27 j = tp[j].kind ∧ S.a 28 j = tp[j].ten ∧ S.a 29 j = tp[j].grams ∧ S.a 30 j = tp[j].how ∧ S.a 31 j = tp[j].left ∧ S.a 32 j = tp[j].foul ∧ ∀ q, q < 834 → S.a 33 (834 * j + q) = drunkAt tp[j].sips (Int32.ofNat q)) ∧
  ∀ j, tp.length ≤ j → j < 40 → S.a 30 j = 0 ∧ S.a 32 j = 0 ∧ ∀ q, q < 834 → S.a 33 (834 * j + q) = 0
def rdPa (M : Mem) (c : Nat) : Tri := (M.i 1280 c, M.i 1281 c, M.i 1282 c)
def XQ (x : Nat) (M : Mem) (pa : List Tri) : Prop := (M.ls (x + 24)).map (rdPa M) = pa ∧ ∀ c ∈ M.ls (x + 24), M.k c = 11
def RQ (S : MS) (pa : List Tri) : Prop := S.i 3 = Int32.ofNat pa.length ∧ pa.length ≤ 60 ∧ ∀ j (h : j < pa.length), S.a 38 j = pa[j].1 ∧ S.a 39 j = pa[j].2.1 ∧ S.a 40 j = pa[j].2.2
def rdPl (M : Mem) (c : Nat) : Tri := (M.i 2048 c, M.i 2049 c, M.i 2050 c)
def XL (x : Nat) (M : Mem) (pl : List Tri) : Prop := (M.ls (x + 25)).map (rdPl M) = pl ∧ ∀ c ∈ M.ls (x + 25), M.k c = 17
def RL (S : MS) (pl : List Tri) : Prop := S.i 73 = Int32.ofNat pl.length ∧ pl.length ≤ 20 ∧ ∀ j (h : j < pl.length), S.a 56 j = pl[j].1 ∧ S.a 57 j = pl[j].2.1 ∧ S.a 58 j = pl[j].2.2
/-- numbers: now, tank, sums, what was so as hours ended, tape, fault -/
def XN (x : Nat) (M : Mem) (d : Dt) : Prop := M.i 0 x = Int32.ofNat d.now ∧ M.i 19 x = d.troom ∧ M.i 20 x = d.thas ∧ (M.l 21 x = d.blew ∧ M.l 22 x = d.taken ∧ M.l 23 x = d.sold ∧ M.l 24 x = d.unsold ∧ M.l 25 x = d.made ∧ M.l 26 x = d.vented ∧ M.l 27 x = d.drunk ∧ M.l 28 x = d.noRoom ∧ M.l 29 x = d.coins) ∧
  (∀ h, h < 834 → M.ai (x + 18) h = d.stored h ∧ M.ai (x + 19) h = d.water h ∧ M.ai (x + 20) h = d.running h) ∧ M.i 7 x = Int32.ofNat d.tape.length ∧ (∀ j (h : j < d.tape.length), M.ai (x + 12) j = d.tape[j]) ∧ M.i 8 x = d.fault
def RN (S : MS) (d : Dt) : Prop := S.i 0 = Int32.ofNat d.now ∧ S.i 18 = d.troom ∧ S.i 19 = d.thas ∧ (S.b 14 0 = d.blew ∧ S.b 14 1 = d.taken ∧ S.b 14 2 = d.sold ∧ S.b 14 3 = d.unsold ∧ S.b 14 4 = d.made ∧ S.b 14 5 = d.vented ∧ S.b 14 6 = d.drunk ∧ S.b 14 11 = d.noRoom ∧ S.b 14 12 = d.coins ∧ S.b 14 7 = (d.so 0).leaked + (d.so 1).leaked ∧ S.b 14 8 = (d.so 0).lost + (d.so 1).lost) ∧
  (∀ h, h < 834 → S.a 35 h = d.stored h ∧ S.a 36 h = d.water h ∧ S.a 37 h = d.running h) ∧ S.i 51 = Int32.ofNat d.tape.length ∧ (∀ j (h : j < d.tape.length), S.a 53 j = d.tape[j]) ∧ S.i 55 = d.fault
/-! conditions -/
def tst (sign num : Int32) (v : Int64) : Bool := if sign = 60 then decide (v < num.toInt64) else if sign = 62 then decide (num.toInt64 < v) else decide (v = num.toInt64)
def CX (x : Nat) (M : Mem) : Nat → Nat → Ask → Prop
  | 0, _, _ => False
  | d + 1, c, φ => (M.k c = 15 ∧ ∃ wd, wd < 8 ∧ M.i 1792 c = Int32.ofNat wd ∧ φ = fun h => tst (M.i 1793 c) (M.i 1794 c) (h wd)) ∨
      (M.k c = 14 ∧ ∃ ψ, CX x M d (M.r 1664 c) ψ ∧ φ = fun h => !(ψ h)) ∨
      (M.k c = 13 ∧ M.k (M.r 1537 c) = 18 ∧ (M.k (M.r 1537 c - 1) ≠ 8 ∧ x + 88 < M.r 1537 c) ∧ ∃ ψs : List Ask, (M.ls (M.r 1537 c)).length = ψs.length ∧ (∀ j (h : j < ψs.length) (h2 : j < (M.ls (M.r 1537 c)).length), CX x M d (M.ls (M.r 1537 c))[j] ψs[j]) ∧ ((M.i 1536 c = 1 ∧ φ = fun h => ψs.all (fun ψ => ψ h)) ∨ (M.i 1536 c = 0 ∧ φ = fun h => ψs.any (fun ψ => ψ h))))
/-- the parts of a node, from the first on; P: what each must be; nodes from lo on, ahead of hi -/
def Chn (S : MS) (P : Nat → Nat → Int32 → Ask → Prop) : Nat → Nat → Int32 → List Ask → Prop
  | _, _, k, [] => k = -1
  | lo, hi, k, ψ :: ψs => ∃ kn mid, lo ≤ kn ∧ kn < mid ∧ mid ≤ hi ∧ k = Int32.ofNat kn ∧ P lo mid k ψ ∧ Chn S P mid hi (S.a 49 kn) ψs
def CM (S : MS) : Nat → Nat → Nat → Int32 → Ask → Prop
  | 0, _, _, _, _ => False
  | d + 1, lo, hi, k, φ => ∃ kn, lo ≤ kn ∧ kn < hi ∧ k = Int32.ofNat kn ∧ ((S.a 47 kn = 3 ∧ ∃ wd, wd < 8 ∧ S.a 50 kn = Int32.ofNat wd ∧ φ = fun h => tst (S.a 51 kn) (S.a 52 kn) (h wd)) ∨
      (S.a 47 kn = 2 ∧ ∃ ψ, CM S d (kn + 1) hi (S.a 48 kn) ψ ∧ φ = fun h => !(ψ h)) ∨
      (∃ ψs : List Ask, Chn S (CM S d) (kn + 1) hi (S.a 48 kn) ψs ∧ ((S.a 47 kn = 1 ∧ φ = fun h => ψs.all (fun ψ => ψ h)) ∨ (S.a 47 kn = 0 ∧ φ = fun h => ψs.any (fun ψ => ψ h)))))
/-! rules -/
def tel (stm : List Sm) (what dflt : Int32) : Int32 := stm.foldl (fun v s => if s.sort = what then s.a else v) dflt
def asks (stm : List Sm) (what : Int32) : List Ask := (stm.filter (fun s => s.sort = what)).map Sm.ask
/-- the statements on what must stand apart: which, kinds, distance -/
def aprt (stm : List Sm) : List (Int32 × Int32 × Int32 × Int32) := (stm.zipIdx.filter (fun p => p.1.sort = 8)).map (fun p => (Int32.ofNat p.2, p.1.a, p.1.b, p.1.c))
def CL (x : Nat) (M : Mem) (l : Nat) (φs : List Ask) : Prop := M.k l = 18 ∧ (M.ls l).length = φs.length ∧ ∀ j (h : j < φs.length) (h2 : j < (M.ls l).length), CX x M 36 (M.ls l)[j] φs[j]
def XR1 (x : Nat) (M : Mem) (c : Nat) (ru : Ru) : Prop := M.k c = 3 ∧ M.i 256 c = ru.from_ ∧ M.i 257 c = tel ru.stm 0 1000 ∧ M.i 258 c = tel ru.stm 1 1500 ∧ M.i 259 c = tel ru.stm 2 20 ∧ M.i 260 c = tel ru.stm 3 4 ∧ M.i 261 c = tel ru.stm 4 100 ∧ M.i 262 c = Int32.ofNat ru.stm.length ∧ M.i 263 c = tel ru.stm 5 0 ∧
  (M.r 264 c = c + 1 ∧ M.r 265 c = c + 2 ∧ M.r 266 c = c + 3) ∧ CL x M (c + 1) (asks ru.stm 6) ∧ CL x M (c + 2) (asks ru.stm 7) ∧ M.k (c + 3) = 18 ∧ (M.ls (c + 3)).map (fun e => (M.i 1920 e, M.i 1921 e, M.i 1922 e, M.i 1923 e)) = aprt ru.stm ∧ ∀ e ∈ M.ls (c + 3), M.k e = 16
def bareR : Ru := mkRu 0 []
def XR (x : Nat) (M : Mem) (rs : List Ru) : Prop := XR1 x M (x + 8) bareR ∧ (M.ls (x + 7)).length = rs.length ∧ ∀ j (h : j < rs.length) (h2 : j < (M.ls (x + 7)).length), XR1 x M (M.ls (x + 7))[j] rs[j] ∧ x + 88 < (M.ls (x + 7))[j]
def RR1 (S : MS) (r : Nat) (ru : Ru) : Prop := S.a 41 r = Int32.ofNat ru.stm.length ∧ ru.stm.length ≤ 24 ∧ S.a 42 r = ru.from_ ∧ ∀ k (h : k < ru.stm.length), S.a 43 (24 * r + k) = ru.stm[k].sort ∧ (if ru.stm[k].sort = 6 ∨ ru.stm[k].sort = 7 then CM S 36 0 (S.i 50).toNatClampNeg (S.a 44 (24 * r + k)) ru.stm[k].ask else S.a 44 (24 * r + k) = ru.stm[k].a) ∧ (ru.stm[k].sort = 8 → S.a 45 (24 * r + k) = ru.stm[k].b ∧ S.a 46 (24 * r + k) = ru.stm[k].c)
def RU (S : MS) (rs : List Ru) : Prop := S.i 49 = Int32.ofNat rs.length ∧ rs.length ≤ 8 ∧ (∃ nd, S.i 50 = Int32.ofNat nd ∧ nd ≤ 600 * rs.length) ∧ ∀ r (h : r < rs.length), RR1 S r rs[r]
/-! all of it -/
def IX (x : Nat) (M : Mem) (d : Dt) : Prop := XT x M d.told ∧ XS x M d.stk ∧ XG x M d.so ∧ XP x M d.trips ∧ XQ x M d.papers ∧ XL x M d.places ∧ XN x M d ∧ XR x M d.rules
def IM (S : MS) (d : Dt) : Prop := RT S d.told ∧ RS S d.now d.stk ∧ RG S d.so ∧ RP S d.trips ∧ RQ S d.papers ∧ RL S d.places ∧ RN S d ∧ RU S d.rules
