/-! BASE 4: Math.min -/
set_option maxRecDepth 100000
def imin (x y : Int32) : Int32 := if y < x then y else x
theorem f_mmin {E : fE} {Z : fZ} {cc : ByteArray} {nL : Nat} {own : String} {ret : Option FieldType} {tb : List ExceptionTableEntry} {nm : String} {L mc ms : Nat} {H : Heap} {cs ss pc : Nat} {lv : List (Nat × Value)} {st : List Value} {x y : Int32} {index : Nat} (K : Zok E Z cc nL own ret tb nm L mc ms)
    (hlink : Cond.methodLink own index Lib.Math.min.name ∈ lw_all) (hstat : Cond.static Lib.Math.min.name ∈ lw_all) (hini : Cond.initialized "java/lang/Math" ∈ lw_all) (hcode : Cond.code Lib.Math.min.name Lib.Math.min.code 2 (some .int) ∈ lw_all)
    (hd : decode cc pc = .ok (.invokestatic index, 3)) (hst : (st.map fun v => v.category).sum ≤ 8) (hL : 1 ≤ L) (hc : cs ≤ mc) (hs : ss ≤ ms) (k : Go E Z nL H cs ss (pc + 3) lv (.int (imin x y) :: st)) : Go E Z nL H cs ss pc lv (.int y :: .int x :: st) := by
  obtain ⟨p, e, R, s, m, args, below, meth, c, Q⟩ := Z
  obtain ⟨hx, hb, hml, hown, hts, hlocks, hr, hG, htb, hnm, hLf, hLl, hmc, hms⟩ := K
  exact fun locs ls hS hl => va_mmin hx hb (hml.trans hl.1.symm) hown (hts _ hlink) (hts _ hstat) (hts _ hini) (hts _ hcode) (by omega) (by omega) (by omega) (by omega) hd (k locs ls hS hl)
theorem f_ishr {E : fE} {Z : fZ} {cc : ByteArray} {nL : Nat} {own : String} {ret : Option FieldType} {tb : List ExceptionTableEntry} {nm : String} {L mc ms : Nat} {H : Heap} {cs ss pc : Nat} {lv : List (Nat × Value)} {st : List Value} {x y v : Int32} (K : Zok E Z cc nL own ret tb nm L mc ms) (hd : decode cc pc = .ok (.ishr, 1)) (hv : x >>> (y &&& 31) = v) (k : Go E Z nL H cs ss (pc + 1) lv (.int v :: st)) : Go E Z nL H cs ss pc lv (.int y :: .int x :: st) := by
  obtain ⟨p, e, R, s, m, args, below, meth, c, Q⟩ := Z
  obtain ⟨hx, hb, hml, hown, hts, hlocks, hr, hG, htb, hnm, hLf, hLl, hmc, hms⟩ := K
  subst hv; exact fun locs ls hS hl => lv_ishr hx hb hd (k locs ls hS hl)
theorem f_ishl {E : fE} {Z : fZ} {cc : ByteArray} {nL : Nat} {own : String} {ret : Option FieldType} {tb : List ExceptionTableEntry} {nm : String} {L mc ms : Nat} {H : Heap} {cs ss pc : Nat} {lv : List (Nat × Value)} {st : List Value} {x y v : Int32} (K : Zok E Z cc nL own ret tb nm L mc ms) (hd : decode cc pc = .ok (.ishl, 1)) (hv : x <<< (y &&& 31) = v) (k : Go E Z nL H cs ss (pc + 1) lv (.int v :: st)) : Go E Z nL H cs ss pc lv (.int y :: .int x :: st) := by
  obtain ⟨p, e, R, s, m, args, below, meth, c, Q⟩ := Z
  obtain ⟨hx, hb, hml, hown, hts, hlocks, hr, hG, htb, hnm, hLf, hLl, hmc, hms⟩ := K
  subst hv; exact fun locs ls hS hl => lv_ishl hx hb hd (k locs ls hS hl)
theorem f_i2c {E : fE} {Z : fZ} {cc : ByteArray} {nL : Nat} {own : String} {ret : Option FieldType} {tb : List ExceptionTableEntry} {nm : String} {L mc ms : Nat} {H : Heap} {cs ss pc : Nat} {lv : List (Nat × Value)} {st : List Value} {x v : Int32} (K : Zok E Z cc nL own ret tb nm L mc ms) (hd : decode cc pc = .ok (.i2c, 1)) (hv : (x.toUInt32 % 65536).toInt32 = v) (k : Go E Z nL H cs ss (pc + 1) lv (.int v :: st)) : Go E Z nL H cs ss pc lv (.int x :: st) := by
  obtain ⟨p, e, R, s, m, args, below, meth, c, Q⟩ := Z
  obtain ⟨hx, hb, hml, hown, hts, hlocks, hr, hG, htb, hnm, hLf, hLl, hmc, hms⟩ := K
  exact fun locs ls hS hl => lv_i2c hx hb hd hv (k locs ls hS hl)
theorem f_i2d {E : fE} {Z : fZ} {cc : ByteArray} {nL : Nat} {own : String} {ret : Option FieldType} {tb : List ExceptionTableEntry} {nm : String} {L mc ms : Nat} {H : Heap} {cs ss pc : Nat} {lv : List (Nat × Value)} {st : List Value} {x : Int32} (K : Zok E Z cc nL own ret tb nm L mc ms) (hd : decode cc pc = .ok (.i2d, 1)) (k : Go E Z nL H cs ss (pc + 1) lv (.double (FP.i2d x) :: st)) : Go E Z nL H cs ss pc lv (.int x :: st) := by
  obtain ⟨p, e, R, s, m, args, below, meth, c, Q⟩ := Z
  obtain ⟨hx, hb, hml, hown, hts, hlocks, hr, hG, htb, hnm, hLf, hLl, hmc, hms⟩ := K
  exact fun locs ls hS hl => lv_i2d hx hb hd (k locs ls hS hl)
theorem f_i2f {E : fE} {Z : fZ} {cc : ByteArray} {nL : Nat} {own : String} {ret : Option FieldType} {tb : List ExceptionTableEntry} {nm : String} {L mc ms : Nat} {H : Heap} {cs ss pc : Nat} {lv : List (Nat × Value)} {st : List Value} {x : Int32} (K : Zok E Z cc nL own ret tb nm L mc ms) (hd : decode cc pc = .ok (.i2f, 1)) (k : Go E Z nL H cs ss (pc + 1) lv (.float (FP.i2f x) :: st)) : Go E Z nL H cs ss pc lv (.int x :: st) := by
  obtain ⟨p, e, R, s, m, args, below, meth, c, Q⟩ := Z
  obtain ⟨hx, hb, hml, hown, hts, hlocks, hr, hG, htb, hnm, hLf, hLl, hmc, hms⟩ := K
  exact fun locs ls hS hl => lv_i2f hx hb hd (k locs ls hS hl)
theorem f_d2i {E : fE} {Z : fZ} {cc : ByteArray} {nL : Nat} {own : String} {ret : Option FieldType} {tb : List ExceptionTableEntry} {nm : String} {L mc ms : Nat} {H : Heap} {cs ss pc : Nat} {lv : List (Nat × Value)} {st : List Value} {x : UInt64} (K : Zok E Z cc nL own ret tb nm L mc ms) (hd : decode cc pc = .ok (.d2i, 1)) (k : Go E Z nL H cs ss (pc + 1) lv (.int (FP.d2i x) :: st)) : Go E Z nL H cs ss pc lv (.double x :: st) := by
  obtain ⟨p, e, R, s, m, args, below, meth, c, Q⟩ := Z
  obtain ⟨hx, hb, hml, hown, hts, hlocks, hr, hG, htb, hnm, hLf, hLl, hmc, hms⟩ := K
  exact fun locs ls hS hl => lv_d2i hx hb hd (k locs ls hS hl)
theorem f_ddiv {E : fE} {Z : fZ} {cc : ByteArray} {nL : Nat} {own : String} {ret : Option FieldType} {tb : List ExceptionTableEntry} {nm : String} {L mc ms : Nat} {H : Heap} {cs ss pc : Nat} {lv : List (Nat × Value)} {st : List Value} {x y : UInt64} (K : Zok E Z cc nL own ret tb nm L mc ms) (hd : decode cc pc = .ok (.ddiv, 1)) (hne : vf_n64 (FP.ddiv x y)) (k : Go E Z nL H cs ss (pc + 1) lv (.double (FP.ddiv x y) :: st)) : Go E Z nL H cs ss pc lv (.double y :: .double x :: st) := by
  obtain ⟨p, e, R, s, m, args, below, meth, c, Q⟩ := Z
  obtain ⟨hx, hb, hml, hown, hts, hlocks, hr, hG, htb, hnm, hLf, hLl, hmc, hms⟩ := K
  exact fun locs ls hS hl => lv_ddiv hx hb hd hne (k locs ls hS hl)
theorem f_fdiv {E : fE} {Z : fZ} {cc : ByteArray} {nL : Nat} {own : String} {ret : Option FieldType} {tb : List ExceptionTableEntry} {nm : String} {L mc ms : Nat} {H : Heap} {cs ss pc : Nat} {lv : List (Nat × Value)} {st : List Value} {x y : UInt32} (K : Zok E Z cc nL own ret tb nm L mc ms) (hd : decode cc pc = .ok (.fdiv, 1)) (hne : vf_n32 (FP.fdiv x y)) (k : Go E Z nL H cs ss (pc + 1) lv (.float (FP.fdiv x y) :: st)) : Go E Z nL H cs ss pc lv (.float y :: .float x :: st) := by
  obtain ⟨p, e, R, s, m, args, below, meth, c, Q⟩ := Z
  obtain ⟨hx, hb, hml, hown, hts, hlocks, hr, hG, htb, hnm, hLf, hLl, hmc, hms⟩ := K
  exact fun locs ls hS hl => lv_fdiv hx hb hd hne (k locs ls hS hl)
theorem f_fmul {E : fE} {Z : fZ} {cc : ByteArray} {nL : Nat} {own : String} {ret : Option FieldType} {tb : List ExceptionTableEntry} {nm : String} {L mc ms : Nat} {H : Heap} {cs ss pc : Nat} {lv : List (Nat × Value)} {st : List Value} {x y : UInt32} (K : Zok E Z cc nL own ret tb nm L mc ms) (hd : decode cc pc = .ok (.fmul, 1)) (hne : vf_n32 (FP.fmul x y)) (k : Go E Z nL H cs ss (pc + 1) lv (.float (FP.fmul x y) :: st)) : Go E Z nL H cs ss pc lv (.float y :: .float x :: st) := by
  obtain ⟨p, e, R, s, m, args, below, meth, c, Q⟩ := Z
  obtain ⟨hx, hb, hml, hown, hts, hlocks, hr, hG, htb, hnm, hLf, hLl, hmc, hms⟩ := K
  exact fun locs ls hS hl => lv_fmul hx hb hd hne (k locs ls hS hl)
theorem f_f2d {E : fE} {Z : fZ} {cc : ByteArray} {nL : Nat} {own : String} {ret : Option FieldType} {tb : List ExceptionTableEntry} {nm : String} {L mc ms : Nat} {H : Heap} {cs ss pc : Nat} {lv : List (Nat × Value)} {st : List Value} {x : UInt32} (K : Zok E Z cc nL own ret tb nm L mc ms) (hd : decode cc pc = .ok (.f2d, 1)) (hne : vf_n64 (FP.f2d x)) (k : Go E Z nL H cs ss (pc + 1) lv (.double (FP.f2d x) :: st)) : Go E Z nL H cs ss pc lv (.float x :: st) := by
  obtain ⟨p, e, R, s, m, args, below, meth, c, Q⟩ := Z
  obtain ⟨hx, hb, hml, hown, hts, hlocks, hr, hG, htb, hnm, hLf, hLl, hmc, hms⟩ := K
  exact fun locs ls hS hl => lv_f2d hx hb hd hne (k locs ls hS hl)
