/-- TowerComputer$Subs.<init>()V -/
def m_12_0 : List am_B := [
  (false, [(.aload_n 0, []), (.invokespecial 3, [3, 0, 0, 1, 0, 0, 0]), (.aload_n 0, []), (.sipush 130, []), (.newarray .int, [1]), (.putfield 11, [12, 0, 1]), (.aload_n 0, []), (.sipush 130, []), (.newarray .int, [1]), (.putfield 15, [12, 1, 1]), (.aload_n 0, []), (.sipush 130, []), (.newarray .int, [1]), (.putfield 18, [12, 2, 1]), (.aload_n 0, []), (.sipush 130, []), (.newarray .int, [1]), (.putfield 21, [12, 3, 1]), (.aload_n 0, []), (.sipush 130, []), (.newarray .int, [1]), (.putfield 24, [12, 4, 1]), (.return_, [])])]
/-- TowerComputer$Subs.find(II)I -/
def m_12_1 : List am_B := [
  (false, [(.iconst 0, []), (.istore_n 3, []), (.nop, [1])]),
  (true, [(.iload_n 3, []), (.aload_n 0, []), (.getfield 27, [12, 5, 0]), (.if_icmp .ge 31, [3]), (.aload_n 0, []), (.getfield 11, [12, 0, 1]), (.iload_n 3, []), (.iaload, []), (.iload_n 1, []), (.if_icmp .ne 15, [2]), (.aload_n 0, []), (.getfield 15, [12, 1, 1]), (.iload_n 3, []), (.iaload, []), (.iload_n 2, []), (.if_icmp .ne 5, [2]), (.iload_n 3, []), (.ireturn, [])]),
  (false, [(.iinc 3 1, []), (.goto (-33), [1])]),
  (false, [(.iconst (-1), []), (.ireturn, [])])]
/-- TowerComputer$Subs.add(III)V -/
def m_12_2 : List am_B := [
  (false, [(.aload_n 0, []), (.getfield 11, [12, 0, 1]), (.aload_n 0, []), (.getfield 27, [12, 5, 0]), (.iload_n 1, []), (.iastore, []), (.aload_n 0, []), (.getfield 15, [12, 1, 1]), (.aload_n 0, []), (.getfield 27, [12, 5, 0]), (.iload_n 2, []), (.iastore, []), (.aload_n 0, []), (.getfield 18, [12, 2, 1]), (.aload_n 0, []), (.getfield 27, [12, 5, 0]), (.iload_n 3, []), (.iastore, []), (.aload_n 0, []), (.getfield 21, [12, 3, 1]), (.aload_n 0, []), (.getfield 27, [12, 5, 0]), (.iconst 0, []), (.iastore, []), (.aload_n 0, []), (.dup, []), (.getfield 27, [12, 5, 0]), (.iconst 1, []), (.iadd, []), (.putfield 27, [12, 5, 0]), (.return_, [])])]
/-- TowerComputer$Tokens.<init>(LTowerComputer$Names;[B)V -/
def m_13_0 : List am_B := [
  (false, [(.aload_n 0, []), (.invokespecial 1, [3, 0, 0, 1, 0, 0, 0]), (.aload_n 0, []), (.sipush 4500, []), (.newarray .byte, [2]), (.putfield 9, [13, 2, 1]), (.aload_n 0, []), (.sipush 4500, []), (.newarray .short, [3]), (.putfield 13, [13, 3, 1]), (.aload_n 0, []), (.sipush 4500, []), (.newarray .int, [1]), (.putfield 17, [13, 4, 1]), (.aload_n 0, []), (.aload_n 1, []), (.putfield 21, [13, 0, 1]), (.aload_n 0, []), (.aload_n 2, []), (.putfield 25, [13, 1, 1]), (.return_, [])])]
/-- TowerComputer$Tokens.here(I)I -/
def m_13_1 : List am_B := [
  (false, [(.aload_n 0, []), (.getfield 28, [13, 7, 0]), (.iload_n 1, []), (.iadd, []), (.aload_n 0, []), (.getfield 32, [13, 6, 0]), (.if_icmp .ge 21, [1]), (.aload_n 0, []), (.getfield 25, [13, 1, 1]), (.aload_n 0, []), (.getfield 28, [13, 7, 0]), (.iload_n 1, []), (.iadd, []), (.baload, [2]), (.sipush 255, []), (.iand, []), (.goto 4, [2])]),
  (false, [(.iconst (-1), []), (.nop, [2])]),
  (false, [(.ireturn, [])])]
/-- TowerComputer$Tokens.isDigit(I)Z -/
def m_13_2 : List am_B := [
  (false, [(.iload_n 0, []), (.bipush 48, []), (.if_icmp .lt 13, [1]), (.iload_n 0, []), (.bipush 57, []), (.if_icmp .gt 7, [1]), (.iconst 1, []), (.goto 4, [2])]),
  (false, [(.iconst 0, []), (.nop, [2])]),
  (false, [(.ireturn, [1])])]
/-- TowerComputer$Tokens.isLetter(I)Z -/
def m_13_3 : List am_B := [
  (false, [(.iload_n 0, []), (.bipush 97, []), (.if_icmp .lt 9, [1]), (.iload_n 0, []), (.bipush 122, []), (.if_icmp .le 21, [3]), (.nop, [1])]),
  (true, [(.iload_n 0, []), (.bipush 65, []), (.if_icmp .lt 9, [2]), (.iload_n 0, []), (.bipush 90, []), (.if_icmp .le 9, [3]), (.nop, [2])]),
  (false, [(.iload_n 0, []), (.bipush 95, []), (.if_icmp .ne 7, [4]), (.nop, [3])]),
  (false, [(.iconst 1, []), (.goto 4, [5])]),
  (false, [(.iconst 0, []), (.nop, [5])]),
  (false, [(.ireturn, [1])])]
/-- TowerComputer$Tokens.isPart(I)Z -/
def m_13_4 : List am_B := [
  (false, [(.iload_n 0, []), (.invokestatic 35, [0, 13, 2, 1, 1, 0, 1]), (.ifCond .ne 10, [1]), (.iload_n 0, []), (.invokestatic 39, [0, 13, 3, 1, 1, 0, 1]), (.ifCond .eq 7, [2]), (.nop, [1])]),
  (false, [(.iconst 1, []), (.goto 4, [3])]),
  (false, [(.iconst 0, []), (.nop, [3])]),
  (false, [(.ireturn, [1])])]
/-- TowerComputer$Tokens.isSign(I)Z -/
def m_13_5 : List am_B := [
  (false, [(.iload_n 0, []), (.lookupswitch 165 #[(38, 163), (40, 163), (41, 163), (42, 163), (43, 163), (44, 163), (45, 163), (46, 163), (47, 163), (59, 163), (60, 163), (61, 163), (62, 163), (91, 163), (93, 163), (123, 163), (124, 163), (125, 163), (126, 163)], [2, 1, 1, 1, 1, 1, 1, 1, 1, 1, 1, 1, 1, 1, 1, 1, 1, 1, 1, 1])]),
  (false, [(.iconst 1, []), (.ireturn, [1])]),
  (false, [(.iconst 0, []), (.ireturn, [1])])]
/-- TowerComputer$Tokens.add(III)V -/
def m_13_6 : List am_B := [
  (false, [(.aload_n 0, []), (.getfield 9, [13, 2, 1]), (.aload_n 0, []), (.getfield 42, [13, 5, 0]), (.iload_n 1, []), (.i2b, []), (.bastore, [2]), (.aload_n 0, []), (.getfield 13, [13, 3, 1]), (.aload_n 0, []), (.getfield 42, [13, 5, 0]), (.iload_n 2, []), (.i2s, []), (.sastore, []), (.aload_n 0, []), (.getfield 17, [13, 4, 1]), (.aload_n 0, []), (.getfield 42, [13, 5, 0]), (.iload_n 3, []), (.iastore, []), (.aload_n 0, []), (.dup, []), (.getfield 42, [13, 5, 0]), (.iconst 1, []), (.iadd, []), (.putfield 42, [13, 5, 0]), (.return_, [])])]
/-- TowerComputer$Tokens.read(II)V -/
def m_13_7 : List am_B := [
  (false, [(.aload_n 0, []), (.iconst 0, []), (.putfield 42, [13, 5, 0]), (.aload_n 0, []), (.iload_n 1, []), (.putfield 32, [13, 6, 0]), (.aload_n 0, []), (.iload_n 2, []), (.putfield 45, [13, 8, 0]), (.aload_n 0, []), (.iconst 0, []), (.putfield 28, [13, 7, 0]), (.iconst 1, []), (.istore_n 3, []), (.nop, [1])]),
  (true, [(.iload_n 3, []), (.ifCond .eq 156, [10]), (.aload_n 0, []), (.invokevirtual 48, [1, 13, 8, 1, 1, 0, 1]), (.istore 4, []), (.aload_n 0, []), (.getfield 28, [13, 7, 0]), (.istore 5, []), (.aload_n 0, []), (.iconst 0, []), (.invokevirtual 52, [1, 13, 1, 2, 1, 0, 1]), (.istore 6, []), (.iload 4, []), (.ifCond .ne 15, [2]), (.aload_n 0, []), (.bipush 6, []), (.iconst 0, []), (.iload 5, []), (.invokevirtual 56, [1, 13, 6, 4, 0, 0, 1]), (.goto 75, [7])]),
  (false, [(.iload 6, []), (.ifCond .ge 14, [3]), (.aload_n 0, []), (.iconst 0, []), (.iconst 0, []), (.iload 5, []), (.invokevirtual 56, [1, 13, 6, 4, 0, 0, 1]), (.goto 59, [7])]),
  (false, [(.iload 6, []), (.invokestatic 39, [0, 13, 3, 1, 1, 0, 1]), (.ifCond .eq 12, [4]), (.aload_n 0, []), (.iload 5, []), (.invokevirtual 60, [1, 13, 9, 2, 0, 0, 1]), (.goto 42, [7])]),
  (false, [(.iload 6, []), (.invokestatic 35, [0, 13, 2, 1, 1, 0, 1]), (.ifCond .eq 12, [5]), (.aload_n 0, []), (.iload 5, []), (.invokevirtual 64, [1, 13, 10, 2, 0, 0, 1]), (.goto 25, [7])]),
  (false, [(.iload 6, []), (.bipush 34, []), (.if_icmp .ne 12, [6]), (.aload_n 0, []), (.iload 5, []), (.invokevirtual 67, [1, 13, 11, 2, 0, 0, 1]), (.goto 9, [7])]),
  (false, [(.aload_n 0, []), (.iload 6, []), (.invokevirtual 70, [1, 13, 12, 2, 0, 0, 1]), (.nop, [7])]),
  (true, [(.aload_n 0, []), (.getfield 9, [13, 2, 1]), (.aload_n 0, []), (.getfield 42, [13, 5, 0]), (.iconst 1, []), (.isub, []), (.baload, [2]), (.istore 7, []), (.iload 7, []), (.ifCond .eq 25, [8]), (.iload 7, []), (.bipush 6, []), (.if_icmp .eq 18, [8]), (.aload_n 0, []), (.getfield 42, [13, 5, 0]), (.aload_n 0, []), (.getfield 45, [13, 8, 0]), (.if_icmp .gt 7, [8]), (.iconst 1, []), (.goto 4, [9])]),
  (false, [(.iconst 0, []), (.nop, [9])]),
  (false, [(.istore_n 3, []), (.goto (-154), [1])]),
  (false, [(.return_, [])])]
/-- TowerComputer$Tokens.skip()Z -/
def m_13_8 : List am_B := [
  (true, [(.aload_n 0, []), (.iconst 0, []), (.invokevirtual 52, [1, 13, 1, 2, 1, 0, 1]), (.istore_n 1, []), (.iload_n 1, []), (.bipush 47, []), (.if_icmp .ne 17, [1]), (.aload_n 0, []), (.iconst 1, []), (.invokevirtual 52, [1, 13, 1, 2, 1, 0, 1]), (.bipush 47, []), (.if_icmp .ne 7, [1]), (.iconst 1, []), (.goto 4, [2])]),
  (false, [(.iconst 0, []), (.nop, [2])]),
  (true, [(.istore_n 2, []), (.iload_n 1, []), (.bipush 47, []), (.if_icmp .ne 17, [3]), (.aload_n 0, []), (.iconst 1, []), (.invokevirtual 52, [1, 13, 1, 2, 1, 0, 1]), (.bipush 42, []), (.if_icmp .ne 7, [3]), (.iconst 1, []), (.goto 4, [4])]),
  (false, [(.iconst 0, []), (.nop, [4])]),
  (true, [(.istore_n 3, []), (.iload_n 2, []), (.ifCond .eq 37, [6]), (.nop, [5])]),
  (true, [(.aload_n 0, []), (.getfield 28, [13, 7, 0]), (.aload_n 0, []), (.getfield 32, [13, 6, 0]), (.if_icmp .ge 161, [14]), (.aload_n 0, []), (.iconst 0, []), (.invokevirtual 52, [1, 13, 1, 2, 1, 0, 1]), (.bipush 10, []), (.if_icmp .eq 151, [14]), (.aload_n 0, []), (.dup, []), (.getfield 28, [13, 7, 0]), (.iconst 1, []), (.iadd, []), (.putfield 28, [13, 7, 0]), (.goto (-31), [5])]),
  (false, [(.iload_n 3, []), (.ifCond .eq 95, [11]), (.aload_n 0, []), (.getfield 28, [13, 7, 0]), (.istore 4, []), (.aload_n 0, []), (.dup, []), (.getfield 28, [13, 7, 0]), (.iconst 2, []), (.iadd, []), (.putfield 28, [13, 7, 0]), (.nop, [7])]),
  (true, [(.aload_n 0, []), (.getfield 28, [13, 7, 0]), (.aload_n 0, []), (.getfield 32, [13, 6, 0]), (.if_icmp .ge 36, [9]), (.aload_n 0, []), (.iconst 0, []), (.invokevirtual 52, [1, 13, 1, 2, 1, 0, 1]), (.bipush 42, []), (.if_icmp .ne 13, [8]), (.aload_n 0, []), (.iconst 1, []), (.invokevirtual 52, [1, 13, 1, 2, 1, 0, 1]), (.bipush 47, []), (.if_icmp .eq 16, [9]), (.nop, [8])]),
  (false, [(.aload_n 0, []), (.dup, []), (.getfield 28, [13, 7, 0]), (.iconst 1, []), (.iadd, []), (.putfield 28, [13, 7, 0]), (.goto (-41), [7])]),
  (true, [(.aload_n 0, []), (.getfield 28, [13, 7, 0]), (.aload_n 0, []), (.getfield 32, [13, 6, 0]), (.if_icmp .lt 11, [10]), (.aload_n 0, []), (.iload 4, []), (.putfield 28, [13, 7, 0]), (.iconst 0, []), (.ireturn, [1])]),
  (false, [(.aload_n 0, []), (.dup, []), (.getfield 28, [13, 7, 0]), (.iconst 2, []), (.iadd, []), (.putfield 28, [13, 7, 0]), (.goto 42, [14])]),
  (false, [(.iload_n 1, []), (.bipush 32, []), (.if_icmp .eq 21, [12]), (.iload_n 1, []), (.bipush 9, []), (.if_icmp .eq 15, [12]), (.iload_n 1, []), (.bipush 10, []), (.if_icmp .eq 9, [12]), (.iload_n 1, []), (.bipush 13, []), (.if_icmp .ne 16, [13]), (.nop, [12])]),
  (false, [(.aload_n 0, []), (.dup, []), (.getfield 28, [13, 7, 0]), (.iconst 1, []), (.iadd, []), (.putfield 28, [13, 7, 0]), (.goto 5, [14])]),
  (false, [(.iconst 1, []), (.ireturn, [1])]),
  (false, [(.goto (-223), [0])])]
/-- TowerComputer$Tokens.word(I)V -/
def m_13_9 : List am_B := [
  (true, [(.aload_n 0, []), (.iconst 0, []), (.invokevirtual 52, [1, 13, 1, 2, 1, 0, 1]), (.invokestatic 73, [0, 13, 4, 1, 1, 0, 1]), (.ifCond .eq 16, [1]), (.aload_n 0, []), (.dup, []), (.getfield 28, [13, 7, 0]), (.iconst 1, []), (.iadd, []), (.putfield 28, [13, 7, 0]), (.goto (-21), [0])]),
  (false, [(.aload_n 0, []), (.getfield 28, [13, 7, 0]), (.iload_n 1, []), (.isub, []), (.bipush 16, []), (.if_icmp .le 12, [2]), (.aload_n 0, []), (.bipush 6, []), (.iconst 0, []), (.iload_n 1, []), (.invokevirtual 56, [1, 13, 6, 4, 0, 0, 1]), (.return_, [])]),
  (false, [(.aload_n 0, []), (.getfield 21, [13, 0, 1]), (.aload_n 0, []), (.getfield 25, [13, 1, 1]), (.iload_n 1, []), (.aload_n 0, []), (.getfield 28, [13, 7, 0]), (.iload_n 1, []), (.isub, []), (.invokevirtual 78, [1, 9, 1, 4, 1, 0, 1]), (.istore_n 2, []), (.iload_n 2, []), (.bipush 21, []), (.if_icmp .ge 13, [3]), (.aload_n 0, []), (.iconst 1, []), (.iload_n 2, []), (.iload_n 1, []), (.invokevirtual 56, [1, 13, 6, 4, 0, 0, 1]), (.goto 10, [4])]),
  (false, [(.aload_n 0, []), (.iconst 2, []), (.iload_n 2, []), (.iload_n 1, []), (.invokevirtual 56, [1, 13, 6, 4, 0, 0, 1]), (.nop, [4])]),
  (false, [(.return_, [])])]
/-- TowerComputer$Tokens.number(I)V -/
def m_13_10 : List am_B := [
  (false, [(.iconst 0, []), (.istore_n 2, []), (.nop, [1])]),
  (true, [(.aload_n 0, []), (.iconst 0, []), (.invokevirtual 52, [1, 13, 1, 2, 1, 0, 1]), (.invokestatic 35, [0, 13, 2, 1, 1, 0, 1]), (.ifCond .eq 35, [2]), (.ldc 84, [0, 100000]), (.bipush 10, []), (.iload_n 2, []), (.imul, []), (.aload_n 0, []), (.iconst 0, []), (.invokevirtual 52, [1, 13, 1, 2, 1, 0, 1]), (.iadd, []), (.bipush 48, []), (.isub, []), (.invokestatic 85, [4, 0, 0, 2, 0, 0, 0]), (.istore_n 2, []), (.aload_n 0, []), (.dup, []), (.getfield 28, [13, 7, 0]), (.iconst 1, []), (.iadd, []), (.putfield 28, [13, 7, 0]), (.goto (-40), [1])]),
  (false, [(.aload_n 0, []), (.getfield 28, [13, 7, 0]), (.iload_n 1, []), (.isub, []), (.iconst 5, []), (.if_icmp .gt 25, [3]), (.iload_n 2, []), (.sipush 32767, []), (.if_icmp .gt 18, [3]), (.aload_n 0, []), (.iconst 0, []), (.invokevirtual 52, [1, 13, 1, 2, 1, 0, 1]), (.invokestatic 73, [0, 13, 4, 1, 1, 0, 1]), (.ifCond .ne 7, [3]), (.iconst 1, []), (.goto 4, [4])]),
  (false, [(.iconst 0, []), (.nop, [4])]),
  (true, [(.istore_n 3, []), (.aload_n 0, []), (.iload_n 3, []), (.ifCond .eq 7, [5]), (.iconst 3, []), (.goto 5, [6])]),
  (false, [(.bipush 6, []), (.nop, [6])]),
  (false, [(.iload_n 3, []), (.ifCond .eq 7, [7]), (.iload_n 2, []), (.goto 4, [8])]),
  (false, [(.iconst 0, []), (.nop, [8])]),
  (false, [(.iload_n 1, []), (.invokevirtual 56, [1, 13, 6, 4, 0, 0, 1]), (.return_, [])])]
/-- TowerComputer$Tokens.string(I)V -/
def m_13_11 : List am_B := [
  (false, [(.aload_n 0, []), (.dup, []), (.getfield 28, [13, 7, 0]), (.iconst 1, []), (.iadd, []), (.putfield 28, [13, 7, 0]), (.nop, [1])]),
  (true, [(.aload_n 0, []), (.iconst 0, []), (.invokevirtual 52, [1, 13, 1, 2, 1, 0, 1]), (.bipush 32, []), (.if_icmp .lt 47, [2]), (.aload_n 0, []), (.iconst 0, []), (.invokevirtual 52, [1, 13, 1, 2, 1, 0, 1]), (.bipush 127, []), (.if_icmp .ge 37, [2]), (.aload_n 0, []), (.iconst 0, []), (.invokevirtual 52, [1, 13, 1, 2, 1, 0, 1]), (.bipush 34, []), (.if_icmp .eq 27, [2]), (.aload_n 0, []), (.getfield 28, [13, 7, 0]), (.iload_n 1, []), (.isub, []), (.bipush 60, []), (.if_icmp .gt 16, [2]), (.aload_n 0, []), (.dup, []), (.getfield 28, [13, 7, 0]), (.iconst 1, []), (.iadd, []), (.putfield 28, [13, 7, 0]), (.goto (-51), [1])]),
  (true, [(.aload_n 0, []), (.getfield 28, [13, 7, 0]), (.iload_n 1, []), (.isub, []), (.iconst 1, []), (.isub, []), (.istore_n 2, []), (.aload_n 0, []), (.iconst 0, []), (.invokevirtual 52, [1, 13, 1, 2, 1, 0, 1]), (.bipush 34, []), (.if_icmp .ne 7, [3]), (.iconst 1, []), (.goto 4, [4])]),
  (false, [(.iconst 0, []), (.nop, [4])]),
  (true, [(.istore_n 3, []), (.aload_n 0, []), (.dup, []), (.getfield 28, [13, 7, 0]), (.iconst 1, []), (.iadd, []), (.putfield 28, [13, 7, 0]), (.aload_n 0, []), (.iload_n 3, []), (.ifCond .eq 7, [5]), (.iconst 4, []), (.goto 5, [6])]),
  (false, [(.bipush 6, []), (.nop, [6])]),
  (false, [(.iload_n 3, []), (.ifCond .eq 7, [7]), (.iload_n 2, []), (.goto 4, [8])]),
  (false, [(.iconst 0, []), (.nop, [8])]),
  (false, [(.iload_n 1, []), (.invokevirtual 56, [1, 13, 6, 4, 0, 0, 1]), (.return_, [])])]
/-- TowerComputer$Tokens.sign(I)V -/
def m_13_12 : List am_B := [
  (false, [(.aload_n 0, []), (.iload_n 1, []), (.invokestatic 91, [0, 13, 5, 1, 1, 0, 1]), (.ifCond .eq 7, [1]), (.iconst 5, []), (.goto 5, [2])]),
  (false, [(.bipush 6, []), (.nop, [2])]),
  (false, [(.iload_n 1, []), (.aload_n 0, []), (.getfield 28, [13, 7, 0]), (.invokevirtual 56, [1, 13, 6, 4, 0, 0, 1]), (.aload_n 0, []), (.dup, []), (.getfield 28, [13, 7, 0]), (.iconst 1, []), (.iadd, []), (.putfield 28, [13, 7, 0]), (.return_, [])])]
/-- TowerComputer$Translator.<init>()V -/
def m_14_0 : List am_B := [
  (false, [(.aload_n 0, []), (.invokespecial 1, [3, 0, 0, 1, 0, 0, 0]), (.aload_n 0, []), (.ldc 9, [0, 32768]), (.newarray .short, [3]), (.putfield 10, [14, 0, 1]), (.aload_n 0, []), (.ldc 9, [0, 32768]), (.newarray .short, [3]), (.putfield 14, [14, 1, 1]), (.aload_n 0, []), (.sipush 1645, []), (.newarray .int, [1]), (.putfield 21, [14, 2, 1]), (.aload_n 0, []), (.ldc 9, [0, 32768]), (.newarray .short, [3]), (.putfield 25, [14, 4, 1]), (.return_, [])])]
/-- TowerComputer$Translator.shared(I)I -/
def m_14_1 : List am_B := [
  (false, [(.sipush 1630, []), (.iload_n 1, []), (.iadd, []), (.ireturn, [])])]
/-- TowerComputer$Translator.sub(I)I -/
def m_14_2 : List am_B := [
  (false, [(.sipush 1500, []), (.iload_n 1, []), (.iadd, []), (.ireturn, [])])]
/-- TowerComputer$Translator.word(I)V -/
def m_14_3 : List am_B := [
  (false, [(.aload_n 0, []), (.getfield 10, [14, 0, 1]), (.aload_n 0, []), (.getfield 28, [14, 3, 0]), (.iload_n 1, []), (.i2s, []), (.sastore, []), (.aload_n 0, []), (.getfield 14, [14, 1, 1]), (.aload_n 0, []), (.getfield 28, [14, 3, 0]), (.iconst (-1), []), (.sastore, []), (.aload_n 0, []), (.getfield 25, [14, 4, 1]), (.aload_n 0, []), (.getfield 28, [14, 3, 0]), (.iconst 0, []), (.sastore, []), (.aload_n 0, []), (.dup, []), (.getfield 28, [14, 3, 0]), (.iconst 1, []), (.iadd, []), (.putfield 28, [14, 3, 0]), (.return_, [])])]
/-- TowerComputer$Translator.at(I)V -/
def m_14_4 : List am_B := [
  (false, [(.aload_n 0, []), (.iload_n 1, []), (.invokevirtual 32, [1, 14, 3, 2, 0, 0, 1]), (.return_, [])])]
/-- TowerComputer$Translator.atLabel(I)V -/
def m_14_5 : List am_B := [
  (false, [(.aload_n 0, []), (.iconst 0, []), (.invokevirtual 32, [1, 14, 3, 2, 0, 0, 1]), (.aload_n 0, []), (.getfield 14, [14, 1, 1]), (.aload_n 0, []), (.getfield 28, [14, 3, 0]), (.iconst 1, []), (.isub, []), (.iload_n 1, []), (.i2s, []), (.sastore, []), (.return_, [])])]
/-- TowerComputer$Translator.put(II)V -/
def m_14_6 : List am_B := [
  (false, [(.aload_n 0, []), (.ldc 36, [0, 57344]), (.iload_n 2, []), (.bipush 6, []), (.ishl, []), (.ior, []), (.iload_n 1, []), (.iconst 3, []), (.ishl, []), (.ior, []), (.invokevirtual 32, [1, 14, 3, 2, 0, 0, 1]), (.return_, [])])]
/-- TowerComputer$Translator.jump(II)V -/
def m_14_7 : List am_B := [
  (false, [(.aload_n 0, []), (.ldc 36, [0, 57344]), (.iload_n 1, []), (.bipush 6, []), (.ishl, []), (.ior, []), (.iload_n 2, []), (.ior, []), (.invokevirtual 32, [1, 14, 3, 2, 0, 0, 1]), (.return_, [])])]
/-- TowerComputer$Translator.go(I)V -/
def m_14_8 : List am_B := [
  (false, [(.aload_n 0, []), (.iload_n 1, []), (.invokevirtual 37, [1, 14, 5, 2, 0, 0, 1]), (.aload_n 0, []), (.bipush 42, []), (.bipush 7, []), (.invokevirtual 40, [1, 14, 7, 3, 0, 0, 1]), (.return_, [])])]
/-- TowerComputer$Translator.here(I)V -/
def m_14_9 : List am_B := [
  (false, [(.aload_n 0, []), (.getfield 21, [14, 2, 1]), (.iload_n 1, []), (.aload_n 0, []), (.getfield 28, [14, 3, 0]), (.iastore, []), (.return_, [])])]
/-- TowerComputer$Translator.pushD()V -/
def m_14_10 : List am_B := [
  (false, [(.aload_n 0, []), (.iconst 0, []), (.invokevirtual 44, [1, 14, 4, 2, 0, 0, 1]), (.aload_n 0, []), (.iconst 5, []), (.bipush 119, []), (.invokevirtual 47, [1, 14, 6, 3, 0, 0, 1]), (.aload_n 0, []), (.iconst 4, []), (.bipush 50, []), (.invokevirtual 47, [1, 14, 6, 3, 0, 0, 1]), (.aload_n 0, []), (.iconst 1, []), (.bipush 12, []), (.invokevirtual 47, [1, 14, 6, 3, 0, 0, 1]), (.return_, [])])]
/-- TowerComputer$Translator.popD()V -/
def m_14_11 : List am_B := [
  (false, [(.aload_n 0, []), (.iconst 0, []), (.invokevirtual 44, [1, 14, 4, 2, 0, 0, 1]), (.aload_n 0, []), (.iconst 5, []), (.bipush 114, []), (.invokevirtual 47, [1, 14, 6, 3, 0, 0, 1]), (.aload_n 0, []), (.iconst 2, []), (.bipush 112, []), (.invokevirtual 47, [1, 14, 6, 3, 0, 0, 1]), (.return_, [])])]
/-- TowerComputer$Translator.keep(I)V -/
def m_14_12 : List am_B := [
  (false, [(.aload_n 0, []), (.iload_n 1, []), (.invokevirtual 44, [1, 14, 4, 2, 0, 0, 1]), (.aload_n 0, []), (.iconst 1, []), (.bipush 12, []), (.invokevirtual 47, [1, 14, 6, 3, 0, 0, 1]), (.return_, [])])]
/-- TowerComputer$Translator.take(I)V -/
def m_14_13 : List am_B := [
  (false, [(.aload_n 0, []), (.iload_n 1, []), (.invokevirtual 44, [1, 14, 4, 2, 0, 0, 1]), (.aload_n 0, []), (.iconst 2, []), (.bipush 112, []), (.invokevirtual 47, [1, 14, 6, 3, 0, 0, 1]), (.return_, [])])]
/-- TowerComputer$Translator.routine(I)V -/
def m_14_14 : List am_B := [
  (false, [(.aload_n 0, []), (.aload_n 0, []), (.getfield 28, [14, 3, 0]), (.bipush 6, []), (.iadd, []), (.invokevirtual 44, [1, 14, 4, 2, 0, 0, 1]), (.aload_n 0, []), (.iconst 2, []), (.bipush 48, []), (.invokevirtual 47, [1, 14, 6, 3, 0, 0, 1]), (.aload_n 0, []), (.bipush 15, []), (.invokevirtual 50, [1, 14, 12, 2, 0, 0, 1]), (.aload_n 0, []), (.aload_n 0, []), (.iload_n 1, []), (.invokevirtual 53, [1, 14, 1, 2, 1, 0, 1]), (.invokevirtual 57, [1, 14, 8, 2, 0, 0, 1]), (.return_, [])])]
/-- TowerComputer$Translator.comeBack()V -/
def m_14_15 : List am_B := [
  (false, [(.aload_n 0, []), (.bipush 15, []), (.invokevirtual 44, [1, 14, 4, 2, 0, 0, 1]), (.aload_n 0, []), (.iconst 4, []), (.bipush 112, []), (.invokevirtual 47, [1, 14, 6, 3, 0, 0, 1]), (.aload_n 0, []), (.bipush 42, []), (.bipush 7, []), (.invokevirtual 40, [1, 14, 7, 3, 0, 0, 1]), (.return_, [])])]
/-- TowerComputer$Translator.begin()V -/
def m_14_16 : List am_B := [
  (false, [(.aload_n 0, []), (.iconst 0, []), (.putfield 28, [14, 3, 0]), (.aload_n 0, []), (.sipush 17000, []), (.invokevirtual 44, [1, 14, 4, 2, 0, 0, 1]), (.aload_n 0, []), (.iconst 2, []), (.bipush 48, []), (.invokevirtual 47, [1, 14, 6, 3, 0, 0, 1]), (.aload_n 0, []), (.iconst 0, []), (.invokevirtual 50, [1, 14, 12, 2, 0, 0, 1]), (.aload_n 0, []), (.aload_n 0, []), (.sipush 129, []), (.invokevirtual 60, [1, 14, 2, 2, 1, 0, 1]), (.invokevirtual 57, [1, 14, 8, 2, 0, 0, 1]), (.aload_n 0, []), (.invokevirtual 63, [1, 14, 17, 1, 0, 0, 1]), (.aload_n 0, []), (.invokevirtual 66, [1, 14, 18, 1, 0, 0, 1]), (.aload_n 0, []), (.invokevirtual 69, [1, 14, 20, 1, 0, 0, 1]), (.aload_n 0, []), (.invokevirtual 72, [1, 14, 22, 1, 0, 0, 1]), (.return_, [])])]
/-- TowerComputer$Translator.save()V -/
def m_14_17 : List am_B := [
  (false, [(.aload_n 0, []), (.aload_n 0, []), (.iconst 0, []), (.invokevirtual 53, [1, 14, 1, 2, 1, 0, 1]), (.invokevirtual 75, [1, 14, 9, 2, 0, 0, 1]), (.aload_n 0, []), (.bipush 15, []), (.invokevirtual 78, [1, 14, 13, 2, 0, 0, 1]), (.aload_n 0, []), (.invokevirtual 81, [1, 14, 10, 1, 0, 0, 1]), (.iconst 1, []), (.istore_n 1, []), (.nop, [1])]),
  (true, [(.iload_n 1, []), (.iconst 4, []), (.if_icmp .gt 18, [2]), (.aload_n 0, []), (.iload_n 1, []), (.invokevirtual 78, [1, 14, 13, 2, 0, 0, 1]), (.aload_n 0, []), (.invokevirtual 81, [1, 14, 10, 1, 0, 0, 1]), (.iinc 1 1, []), (.goto (-17), [1])]),
  (false, [(.aload_n 0, []), (.iconst 0, []), (.invokevirtual 78, [1, 14, 13, 2, 0, 0, 1]), (.aload_n 0, []), (.iconst 1, []), (.invokevirtual 50, [1, 14, 12, 2, 0, 0, 1]), (.aload_n 0, []), (.iconst 5, []), (.invokevirtual 44, [1, 14, 4, 2, 0, 0, 1]), (.aload_n 0, []), (.iconst 2, []), (.bipush 19, []), (.invokevirtual 47, [1, 14, 6, 3, 0, 0, 1]), (.aload_n 0, []), (.bipush 13, []), (.invokevirtual 44, [1, 14, 4, 2, 0, 0, 1]), (.aload_n 0, []), (.iconst 2, []), (.bipush 83, []), (.invokevirtual 47, [1, 14, 6, 3, 0, 0, 1]), (.aload_n 0, []), (.iconst 2, []), (.invokevirtual 50, [1, 14, 12, 2, 0, 0, 1]), (.aload_n 0, []), (.bipush 14, []), (.invokevirtual 44, [1, 14, 4, 2, 0, 0, 1]), (.aload_n 0, []), (.iconst 4, []), (.bipush 112, []), (.invokevirtual 47, [1, 14, 6, 3, 0, 0, 1]), (.aload_n 0, []), (.bipush 42, []), (.bipush 7, []), (.invokevirtual 40, [1, 14, 7, 3, 0, 0, 1]), (.return_, [])])]
/-- TowerComputer$Translator.back()V -/
def m_14_18 : List am_B := [
  (false, [(.aload_n 0, []), (.aload_n 0, []), (.iconst 1, []), (.invokevirtual 53, [1, 14, 1, 2, 1, 0, 1]), (.invokevirtual 75, [1, 14, 9, 2, 0, 0, 1]), (.aload_n 0, []), (.iconst 1, []), (.invokevirtual 78, [1, 14, 13, 2, 0, 0, 1]), (.aload_n 0, []), (.bipush 13, []), (.invokevirtual 50, [1, 14, 12, 2, 0, 0, 1]), (.aload_n 0, []), (.iconst 5, []), (.invokevirtual 44, [1, 14, 4, 2, 0, 0, 1]), (.aload_n 0, []), (.iconst 4, []), (.bipush 19, []), (.invokevirtual 47, [1, 14, 6, 3, 0, 0, 1]), (.aload_n 0, []), (.iconst 2, []), (.bipush 112, []), (.invokevirtual 47, [1, 14, 6, 3, 0, 0, 1]), (.aload_n 0, []), (.bipush 14, []), (.invokevirtual 50, [1, 14, 12, 2, 0, 0, 1]), (.aload_n 0, []), (.invokevirtual 84, [1, 14, 11, 1, 0, 0, 1]), (.aload_n 0, []), (.iconst 2, []), (.invokevirtual 44, [1, 14, 4, 2, 0, 0, 1]), (.aload_n 0, []), (.iconst 4, []), (.bipush 112, []), (.invokevirtual 47, [1, 14, 6, 3, 0, 0, 1]), (.aload_n 0, []), (.iconst 1, []), (.bipush 12, []), (.invokevirtual 47, [1, 14, 6, 3, 0, 0, 1]), (.aload_n 0, []), (.iconst 2, []), (.invokevirtual 44, [1, 14, 4, 2, 0, 0, 1]), (.aload_n 0, []), (.iconst 2, []), (.bipush 112, []), (.invokevirtual 47, [1, 14, 6, 3, 0, 0, 1]), (.aload_n 0, []), (.iconst 0, []), (.invokevirtual 44, [1, 14, 4, 2, 0, 0, 1]), (.aload_n 0, []), (.iconst 1, []), (.bipush 31, []), (.invokevirtual 47, [1, 14, 6, 3, 0, 0, 1]), (.iconst 4, []), (.istore_n 1, []), (.nop, [1])]),
  (true, [(.iload_n 1, []), (.iconst 1, []), (.if_icmp .lt 34, [3]), (.aload_n 0, []), (.bipush 13, []), (.invokevirtual 44, [1, 14, 4, 2, 0, 0, 1]), (.nop, [2])]),
  (true, [(.aload_n 0, []), (.iconst 5, []), (.bipush 114, []), (.invokevirtual 47, [1, 14, 6, 3, 0, 0, 1]), (.aload_n 0, []), (.iconst 2, []), (.bipush 112, []), (.invokevirtual 47, [1, 14, 6, 3, 0, 0, 1]), (.aload_n 0, []), (.iload_n 1, []), (.invokevirtual 50, [1, 14, 12, 2, 0, 0, 1]), (.iinc 1 (-1), []), (.goto (-33), [1])]),
  (false, [(.aload_n 0, []), (.bipush 14, []), (.invokevirtual 44, [1, 14, 4, 2, 0, 0, 1]), (.aload_n 0, []), (.iconst 4, []), (.bipush 112, []), (.invokevirtual 47, [1, 14, 6, 3, 0, 0, 1]), (.aload_n 0, []), (.bipush 42, []), (.bipush 7, []), (.invokevirtual 40, [1, 14, 7, 3, 0, 0, 1]), (.return_, [])])]
/-- TowerComputer$Translator.tell(II)V -/
def m_14_19 : List am_B := [
  (false, [(.aload_n 0, []), (.aload_n 0, []), (.iload_n 1, []), (.invokevirtual 53, [1, 14, 1, 2, 1, 0, 1]), (.invokevirtual 75, [1, 14, 9, 2, 0, 0, 1]), (.aload_n 0, []), (.iconst 0, []), (.invokevirtual 44, [1, 14, 4, 2, 0, 0, 1]), (.aload_n 0, []), (.iconst 4, []), (.bipush 114, []), (.invokevirtual 47, [1, 14, 6, 3, 0, 0, 1]), (.aload_n 0, []), (.iconst 1, []), (.iload_n 2, []), (.invokevirtual 47, [1, 14, 6, 3, 0, 0, 1]), (.aload_n 0, []), (.invokevirtual 87, [1, 14, 15, 1, 0, 0, 1]), (.return_, [])])]
/-- TowerComputer$Translator.compare()V -/
def m_14_20 : List am_B := [
  (false, [(.aload_n 0, []), (.bipush 10, []), (.bipush 58, []), (.invokevirtual 90, [1, 14, 19, 3, 0, 0, 1]), (.aload_n 0, []), (.bipush 11, []), (.bipush 42, []), (.invokevirtual 90, [1, 14, 19, 3, 0, 0, 1]), (.aload_n 0, []), (.aload_n 0, []), (.iconst 2, []), (.invokevirtual 53, [1, 14, 1, 2, 1, 0, 1]), (.invokevirtual 75, [1, 14, 9, 2, 0, 0, 1]), (.aload_n 0, []), (.invokevirtual 84, [1, 14, 11, 1, 0, 0, 1]), (.aload_n 0, []), (.iconst 4, []), (.bipush 50, []), (.invokevirtual 47, [1, 14, 6, 3, 0, 0, 1]), (.aload_n 0, []), (.iconst 2, []), (.bipush 71, []), (.invokevirtual 47, [1, 14, 6, 3, 0, 0, 1]), (.aload_n 0, []), (.aload_n 0, []), (.bipush 10, []), (.invokevirtual 53, [1, 14, 1, 2, 1, 0, 1]), (.invokevirtual 37, [1, 14, 5, 2, 0, 0, 1]), (.aload_n 0, []), (.bipush 12, []), (.iconst 2, []), (.invokevirtual 40, [1, 14, 7, 3, 0, 0, 1]), (.aload_n 0, []), (.aload_n 0, []), (.bipush 11, []), (.invokevirtual 53, [1, 14, 1, 2, 1, 0, 1]), (.invokevirtual 57, [1, 14, 8, 2, 0, 0, 1]), (.aload_n 0, []), (.aload_n 0, []), (.iconst 4, []), (.invokevirtual 53, [1, 14, 1, 2, 1, 0, 1]), (.invokevirtual 75, [1, 14, 9, 2, 0, 0, 1]), (.aload_n 0, []), (.invokevirtual 84, [1, 14, 11, 1, 0, 0, 1]), (.aload_n 0, []), (.bipush 14, []), (.invokevirtual 50, [1, 14, 12, 2, 0, 0, 1]), (.aload_n 0, []), (.iconst 0, []), (.invokevirtual 44, [1, 14, 4, 2, 0, 0, 1]), (.aload_n 0, []), (.iconst 4, []), (.bipush 114, []), (.invokevirtual 47, [1, 14, 6, 3, 0, 0, 1]), (.aload_n 0, []), (.iconst 2, []), (.bipush 112, []), (.invokevirtual 47, [1, 14, 6, 3, 0, 0, 1]), (.aload_n 0, []), (.bipush 13, []), (.invokevirtual 50, [1, 14, 12, 2, 0, 0, 1]), (.nop, [1])]),
  (true, [(.aload_n 0, []), (.aload_n 0, []), (.bipush 12, []), (.invokevirtual 53, [1, 14, 1, 2, 1, 0, 1]), (.invokevirtual 57, [1, 14, 8, 2, 0, 0, 1]), (.aload_n 0, []), (.aload_n 0, []), (.iconst 3, []), (.invokevirtual 53, [1, 14, 1, 2, 1, 0, 1]), (.invokevirtual 75, [1, 14, 9, 2, 0, 0, 1]), (.aload_n 0, []), (.invokevirtual 84, [1, 14, 11, 1, 0, 0, 1]), (.aload_n 0, []), (.bipush 13, []), (.invokevirtual 50, [1, 14, 12, 2, 0, 0, 1]), (.aload_n 0, []), (.iconst 0, []), (.invokevirtual 44, [1, 14, 4, 2, 0, 0, 1]), (.aload_n 0, []), (.iconst 4, []), (.bipush 114, []), (.invokevirtual 47, [1, 14, 6, 3, 0, 0, 1]), (.aload_n 0, []), (.iconst 2, []), (.bipush 112, []), (.invokevirtual 47, [1, 14, 6, 3, 0, 0, 1]), (.aload_n 0, []), (.bipush 14, []), (.invokevirtual 50, [1, 14, 12, 2, 0, 0, 1]), (.aload_n 0, []), (.aload_n 0, []), (.bipush 12, []), (.invokevirtual 53, [1, 14, 1, 2, 1, 0, 1]), (.invokevirtual 75, [1, 14, 9, 2, 0, 0, 1]), (.aload_n 0, []), (.bipush 14, []), (.invokevirtual 78, [1, 14, 13, 2, 0, 0, 1]), (.aload_n 0, []), (.aload_n 0, []), (.bipush 13, []), (.invokevirtual 53, [1, 14, 1, 2, 1, 0, 1]), (.invokevirtual 37, [1, 14, 5, 2, 0, 0, 1]), (.aload_n 0, []), (.bipush 12, []), (.iconst 4, []), (.invokevirtual 40, [1, 14, 7, 3, 0, 0, 1]), (.aload_n 0, []), (.bipush 13, []), (.invokevirtual 78, [1, 14, 13, 2, 0, 0, 1]), (.aload_n 0, []), (.aload_n 0, []), (.bipush 11, []), (.invokevirtual 53, [1, 14, 1, 2, 1, 0, 1]), (.invokevirtual 37, [1, 14, 5, 2, 0, 0, 1]), (.aload_n 0, []), (.bipush 12, []), (.iconst 4, []), (.invokevirtual 40, [1, 14, 7, 3, 0, 0, 1]), (.aload_n 0, []), (.aload_n 0, []), (.bipush 14, []), (.invokevirtual 53, [1, 14, 1, 2, 1, 0, 1]), (.invokevirtual 57, [1, 14, 8, 2, 0, 0, 1]), (.nop, [2])]),
  (true, [(.aload_n 0, []), (.aload_n 0, []), (.bipush 13, []), (.invokevirtual 53, [1, 14, 1, 2, 1, 0, 1]), (.invokevirtual 75, [1, 14, 9, 2, 0, 0, 1]), (.aload_n 0, []), (.bipush 13, []), (.invokevirtual 78, [1, 14, 13, 2, 0, 0, 1]), (.aload_n 0, []), (.aload_n 0, []), (.bipush 10, []), (.invokevirtual 53, [1, 14, 1, 2, 1, 0, 1]), (.invokevirtual 37, [1, 14, 5, 2, 0, 0, 1]), (.aload_n 0, []), (.bipush 12, []), (.iconst 3, []), (.invokevirtual 40, [1, 14, 7, 3, 0, 0, 1]), (.aload_n 0, []), (.aload_n 0, []), (.bipush 14, []), (.invokevirtual 53, [1, 14, 1, 2, 1, 0, 1]), (.invokevirtual 75, [1, 14, 9, 2, 0, 0, 1]), (.aload_n 0, []), (.bipush 14, []), (.invokevirtual 78, [1, 14, 13, 2, 0, 0, 1]), (.aload_n 0, []), (.bipush 13, []), (.invokevirtual 44, [1, 14, 4, 2, 0, 0, 1]), (.aload_n 0, []), (.iconst 2, []), (.bipush 83, []), (.invokevirtual 47, [1, 14, 6, 3, 0, 0, 1]), (.aload_n 0, []), (.aload_n 0, []), (.bipush 10, []), (.invokevirtual 53, [1, 14, 1, 2, 1, 0, 1]), (.invokevirtual 37, [1, 14, 5, 2, 0, 0, 1]), (.aload_n 0, []), (.bipush 12, []), (.iconst 4, []), (.invokevirtual 40, [1, 14, 7, 3, 0, 0, 1]), (.aload_n 0, []), (.aload_n 0, []), (.bipush 11, []), (.invokevirtual 53, [1, 14, 1, 2, 1, 0, 1]), (.invokevirtual 57, [1, 14, 8, 2, 0, 0, 1]), (.return_, [])])]
/-- TowerComputer$Translator.look(I)V -/
def m_14_21 : List am_B := [
  (false, [(.aload_n 0, []), (.iconst 0, []), (.invokevirtual 44, [1, 14, 4, 2, 0, 0, 1]), (.aload_n 0, []), (.iconst 4, []), (.bipush 114, []), (.invokevirtual 47, [1, 14, 6, 3, 0, 0, 1]), (.aload_n 0, []), (.iconst 2, []), (.bipush 112, []), (.invokevirtual 47, [1, 14, 6, 3, 0, 0, 1]), (.aload_n 0, []), (.aload_n 0, []), (.bipush 9, []), (.invokevirtual 53, [1, 14, 1, 2, 1, 0, 1]), (.invokevirtual 37, [1, 14, 5, 2, 0, 0, 1]), (.aload_n 0, []), (.bipush 12, []), (.iconst 4, []), (.invokevirtual 40, [1, 14, 7, 3, 0, 0, 1]), (.aload_n 0, []), (.sipush 2048, []), (.invokevirtual 44, [1, 14, 4, 2, 0, 0, 1]), (.aload_n 0, []), (.iconst 2, []), (.bipush 19, []), (.invokevirtual 47, [1, 14, 6, 3, 0, 0, 1]), (.aload_n 0, []), (.aload_n 0, []), (.bipush 9, []), (.invokevirtual 53, [1, 14, 1, 2, 1, 0, 1]), (.invokevirtual 37, [1, 14, 5, 2, 0, 0, 1]), (.aload_n 0, []), (.bipush 12, []), (.iconst 4, []), (.invokevirtual 40, [1, 14, 7, 3, 0, 0, 1]), (.aload_n 0, []), (.sipush 12288, []), (.invokevirtual 44, [1, 14, 4, 2, 0, 0, 1]), (.aload_n 0, []), (.iconst 2, []), (.bipush 19, []), (.invokevirtual 47, [1, 14, 6, 3, 0, 0, 1]), (.aload_n 0, []), (.aload_n 0, []), (.iload_n 1, []), (.invokevirtual 53, [1, 14, 1, 2, 1, 0, 1]), (.invokevirtual 37, [1, 14, 5, 2, 0, 0, 1]), (.aload_n 0, []), (.bipush 12, []), (.iconst 4, []), (.invokevirtual 40, [1, 14, 7, 3, 0, 0, 1]), (.aload_n 0, []), (.sipush 2048, []), (.invokevirtual 44, [1, 14, 4, 2, 0, 0, 1]), (.aload_n 0, []), (.iconst 2, []), (.bipush 19, []), (.invokevirtual 47, [1, 14, 6, 3, 0, 0, 1]), (.nop, [1])]),
  (true, [(.aload_n 0, []), (.aload_n 0, []), (.bipush 9, []), (.invokevirtual 53, [1, 14, 1, 2, 1, 0, 1]), (.invokevirtual 37, [1, 14, 5, 2, 0, 0, 1]), (.aload_n 0, []), (.bipush 12, []), (.iconst 4, []), (.invokevirtual 40, [1, 14, 7, 3, 0, 0, 1]), (.aload_n 0, []), (.sipush 128, []), (.invokevirtual 44, [1, 14, 4, 2, 0, 0, 1]), (.aload_n 0, []), (.iconst 2, []), (.bipush 19, []), (.invokevirtual 47, [1, 14, 6, 3, 0, 0, 1]), (.aload_n 0, []), (.aload_n 0, []), (.iload_n 1, []), (.invokevirtual 53, [1, 14, 1, 2, 1, 0, 1]), (.invokevirtual 37, [1, 14, 5, 2, 0, 0, 1]), (.aload_n 0, []), (.bipush 12, []), (.iconst 4, []), (.invokevirtual 40, [1, 14, 7, 3, 0, 0, 1]), (.aload_n 0, []), (.aload_n 0, []), (.bipush 9, []), (.invokevirtual 53, [1, 14, 1, 2, 1, 0, 1]), (.invokevirtual 57, [1, 14, 8, 2, 0, 0, 1]), (.return_, [])])]
/-- TowerComputer$Translator.memory()V -/
def m_14_22 : List am_B := [
  (false, [(.aload_n 0, []), (.aload_n 0, []), (.bipush 9, []), (.invokevirtual 53, [1, 14, 1, 2, 1, 0, 1]), (.invokevirtual 75, [1, 14, 9, 2, 0, 0, 1]), (.aload_n 0, []), (.bipush 20, []), (.invokevirtual 44, [1, 14, 4, 2, 0, 0, 1]), (.aload_n 0, []), (.iconst 2, []), (.bipush 48, []), (.invokevirtual 47, [1, 14, 6, 3, 0, 0, 1]), (.aload_n 0, []), (.sipush 32004, []), (.invokevirtual 50, [1, 14, 12, 2, 0, 0, 1]), (.aload_n 0, []), (.aload_n 0, []), (.iconst 5, []), (.invokevirtual 53, [1, 14, 1, 2, 1, 0, 1]), (.invokevirtual 75, [1, 14, 9, 2, 0, 0, 1]), (.aload_n 0, []), (.bipush 7, []), (.invokevirtual 93, [1, 14, 21, 2, 0, 0, 1]), (.aload_n 0, []), (.aload_n 0, []), (.bipush 7, []), (.invokevirtual 53, [1, 14, 1, 2, 1, 0, 1]), (.invokevirtual 75, [1, 14, 9, 2, 0, 0, 1]), (.aload_n 0, []), (.iconst 0, []), (.invokevirtual 44, [1, 14, 4, 2, 0, 0, 1]), (.aload_n 0, []), (.iconst 4, []), (.bipush 114, []), (.invokevirtual 47, [1, 14, 6, 3, 0, 0, 1]), (.aload_n 0, []), (.iconst 4, []), (.bipush 112, []), (.invokevirtual 47, [1, 14, 6, 3, 0, 0, 1]), (.aload_n 0, []), (.iconst 2, []), (.bipush 112, []), (.invokevirtual 47, [1, 14, 6, 3, 0, 0, 1]), (.aload_n 0, []), (.iconst 0, []), (.invokevirtual 44, [1, 14, 4, 2, 0, 0, 1]), (.aload_n 0, []), (.iconst 4, []), (.bipush 114, []), (.invokevirtual 47, [1, 14, 6, 3, 0, 0, 1]), (.aload_n 0, []), (.iconst 1, []), (.bipush 12, []), (.invokevirtual 47, [1, 14, 6, 3, 0, 0, 1]), (.aload_n 0, []), (.invokevirtual 87, [1, 14, 15, 1, 0, 0, 1]), (.aload_n 0, []), (.aload_n 0, []), (.bipush 6, []), (.invokevirtual 53, [1, 14, 1, 2, 1, 0, 1]), (.invokevirtual 75, [1, 14, 9, 2, 0, 0, 1]), (.nop, [1])]),
  (true, [(.aload_n 0, []), (.bipush 8, []), (.invokevirtual 93, [1, 14, 21, 2, 0, 0, 1]), (.aload_n 0, []), (.aload_n 0, []), (.bipush 8, []), (.invokevirtual 53, [1, 14, 1, 2, 1, 0, 1]), (.invokevirtual 75, [1, 14, 9, 2, 0, 0, 1]), (.aload_n 0, []), (.invokevirtual 84, [1, 14, 11, 1, 0, 0, 1]), (.aload_n 0, []), (.bipush 13, []), (.invokevirtual 50, [1, 14, 12, 2, 0, 0, 1]), (.aload_n 0, []), (.iconst 5, []), (.invokevirtual 78, [1, 14, 13, 2, 0, 0, 1]), (.aload_n 0, []), (.bipush 13, []), (.invokevirtual 44, [1, 14, 4, 2, 0, 0, 1]), (.aload_n 0, []), (.iconst 4, []), (.bipush 112, []), (.invokevirtual 47, [1, 14, 6, 3, 0, 0, 1]), (.aload_n 0, []), (.iconst 1, []), (.bipush 12, []), (.invokevirtual 47, [1, 14, 6, 3, 0, 0, 1]), (.aload_n 0, []), (.invokevirtual 87, [1, 14, 15, 1, 0, 0, 1]), (.return_, [])])]
/-- TowerComputer$Translator.pushFrom(II)V -/
def m_14_23 : List am_B := [
  (false, [(.iload_n 1, []), (.tableswitch 85 0 5 #[39, 85, 85, 54, 65, 75], [5, 1, 5, 5, 2, 3, 4])]),
  (false, [(.aload_n 0, []), (.iload_n 2, []), (.invokevirtual 44, [1, 14, 4, 2, 0, 0, 1]), (.aload_n 0, []), (.iconst 2, []), (.bipush 48, []), (.invokevirtual 47, [1, 14, 6, 3, 0, 0, 1]), (.goto 74, [8])]),
  (false, [(.aload_n 0, []), (.bipush 16, []), (.iload_n 2, []), (.iadd, []), (.invokevirtual 78, [1, 14, 13, 2, 0, 0, 1]), (.goto 63, [8])]),
  (false, [(.aload_n 0, []), (.iconst 3, []), (.iload_n 2, []), (.iadd, []), (.invokevirtual 78, [1, 14, 13, 2, 0, 0, 1]), (.goto 53, [8])]),
  (false, [(.aload_n 0, []), (.iconst 5, []), (.iload_n 2, []), (.iadd, []), (.invokevirtual 78, [1, 14, 13, 2, 0, 0, 1]), (.goto 43, [8])]),
  (true, [(.aload_n 0, []), (.iload_n 2, []), (.invokevirtual 44, [1, 14, 4, 2, 0, 0, 1]), (.aload_n 0, []), (.iconst 2, []), (.bipush 48, []), (.invokevirtual 47, [1, 14, 6, 3, 0, 0, 1]), (.aload_n 0, []), (.iload_n 1, []), (.iconst 2, []), (.if_icmp .ne 7, [6]), (.iconst 1, []), (.goto 4, [7])]),
  (false, [(.iconst 2, []), (.nop, [7])]),
  (true, [(.invokevirtual 44, [1, 14, 4, 2, 0, 0, 1]), (.aload_n 0, []), (.iconst 4, []), (.bipush 66, []), (.invokevirtual 47, [1, 14, 6, 3, 0, 0, 1]), (.aload_n 0, []), (.iconst 2, []), (.bipush 112, []), (.invokevirtual 47, [1, 14, 6, 3, 0, 0, 1]), (.nop, [8])]),
  (false, [(.aload_n 0, []), (.invokevirtual 81, [1, 14, 10, 1, 0, 0, 1]), (.return_, [])])]
/-- TowerComputer$Translator.popTo(II)V -/
def m_14_24 : List am_B := [
  (false, [(.iload_n 1, []), (.iconst 3, []), (.if_icmp .eq 13, [1]), (.iload_n 1, []), (.iconst 4, []), (.if_icmp .eq 8, [1]), (.iload_n 1, []), (.iconst 5, []), (.if_icmp .ne 38, [5]), (.nop, [1])]),
  (true, [(.aload_n 0, []), (.invokevirtual 84, [1, 14, 11, 1, 0, 0, 1]), (.aload_n 0, []), (.iload_n 1, []), (.iconst 3, []), (.if_icmp .ne 10, [2]), (.bipush 16, []), (.iload_n 2, []), (.iadd, []), (.goto 17, [4])]),
  (false, [(.iload_n 1, []), (.iconst 4, []), (.if_icmp .ne 9, [3]), (.iconst 3, []), (.iload_n 2, []), (.iadd, []), (.goto 6, [4])]),
  (false, [(.iconst 5, []), (.iload_n 2, []), (.iadd, []), (.nop, [4])]),
  (false, [(.invokevirtual 50, [1, 14, 12, 2, 0, 0, 1]), (.return_, [])]),
  (false, [(.aload_n 0, []), (.iload_n 2, []), (.invokevirtual 44, [1, 14, 4, 2, 0, 0, 1]), (.aload_n 0, []), (.iconst 2, []), (.bipush 48, []), (.invokevirtual 47, [1, 14, 6, 3, 0, 0, 1]), (.aload_n 0, []), (.iload_n 1, []), (.iconst 2, []), (.if_icmp .ne 7, [6]), (.iconst 1, []), (.goto 4, [7])]),
  (false, [(.iconst 2, []), (.nop, [7])]),
  (true, [(.invokevirtual 44, [1, 14, 4, 2, 0, 0, 1]), (.aload_n 0, []), (.iconst 2, []), (.bipush 66, []), (.invokevirtual 47, [1, 14, 6, 3, 0, 0, 1]), (.aload_n 0, []), (.bipush 13, []), (.invokevirtual 50, [1, 14, 12, 2, 0, 0, 1]), (.aload_n 0, []), (.invokevirtual 84, [1, 14, 11, 1, 0, 0, 1]), (.aload_n 0, []), (.bipush 13, []), (.invokevirtual 44, [1, 14, 4, 2, 0, 0, 1]), (.aload_n 0, []), (.iconst 4, []), (.bipush 112, []), (.invokevirtual 47, [1, 14, 6, 3, 0, 0, 1]), (.aload_n 0, []), (.iconst 1, []), (.bipush 12, []), (.invokevirtual 47, [1, 14, 6, 3, 0, 0, 1]), (.return_, [])])]
/-- TowerComputer$Translator.two(I)V -/
def m_14_25 : List am_B := [
  (false, [(.aload_n 0, []), (.invokevirtual 84, [1, 14, 11, 1, 0, 0, 1]), (.aload_n 0, []), (.iconst 4, []), (.bipush 50, []), (.invokevirtual 47, [1, 14, 6, 3, 0, 0, 1]), (.aload_n 0, []), (.iconst 1, []), (.iload_n 1, []), (.invokevirtual 47, [1, 14, 6, 3, 0, 0, 1]), (.return_, [])])]
/-- TowerComputer$Translator.one(I)V -/
def m_14_26 : List am_B := [
  (false, [(.aload_n 0, []), (.iconst 0, []), (.invokevirtual 44, [1, 14, 4, 2, 0, 0, 1]), (.aload_n 0, []), (.iconst 4, []), (.bipush 114, []), (.invokevirtual 47, [1, 14, 6, 3, 0, 0, 1]), (.aload_n 0, []), (.iconst 1, []), (.iload_n 1, []), (.invokevirtual 47, [1, 14, 6, 3, 0, 0, 1]), (.return_, [])])]
/-- TowerComputer$Translator.function(IIIZ)V -/
def m_14_27 : List am_B := [
  (false, [(.aload_n 0, []), (.aload_n 0, []), (.iload_n 1, []), (.invokevirtual 60, [1, 14, 2, 2, 1, 0, 1]), (.invokevirtual 75, [1, 14, 9, 2, 0, 0, 1]), (.aload_n 0, []), (.getfield 28, [14, 3, 0]), (.istore 5, []), (.aload_n 0, []), (.bipush 15, []), (.invokevirtual 50, [1, 14, 12, 2, 0, 0, 1]), (.iload 4, []), (.ifCond .eq 11, [1]), (.aload_n 0, []), (.getfield 25, [14, 4, 1]), (.iload 5, []), (.iconst 1, []), (.sastore, []), (.nop, [1])]),
  (true, [(.aload_n 0, []), (.iload_n 3, []), (.invokevirtual 44, [1, 14, 4, 2, 0, 0, 1]), (.aload_n 0, []), (.iconst 2, []), (.bipush 48, []), (.invokevirtual 47, [1, 14, 6, 3, 0, 0, 1]), (.aload_n 0, []), (.bipush 13, []), (.invokevirtual 50, [1, 14, 12, 2, 0, 0, 1]), (.aload_n 0, []), (.aload_n 0, []), (.getfield 28, [14, 3, 0]), (.bipush 6, []), (.iadd, []), (.invokevirtual 44, [1, 14, 4, 2, 0, 0, 1]), (.aload_n 0, []), (.iconst 2, []), (.bipush 48, []), (.invokevirtual 47, [1, 14, 6, 3, 0, 0, 1]), (.aload_n 0, []), (.bipush 14, []), (.invokevirtual 50, [1, 14, 12, 2, 0, 0, 1]), (.aload_n 0, []), (.aload_n 0, []), (.iconst 0, []), (.invokevirtual 53, [1, 14, 1, 2, 1, 0, 1]), (.invokevirtual 57, [1, 14, 8, 2, 0, 0, 1]), (.iconst 0, []), (.istore 6, []), (.nop, [2])]),
  (true, [(.iload 6, []), (.iload_n 2, []), (.if_icmp .ge 20, [3]), (.aload_n 0, []), (.iconst 2, []), (.bipush 42, []), (.invokevirtual 47, [1, 14, 6, 3, 0, 0, 1]), (.aload_n 0, []), (.invokevirtual 81, [1, 14, 10, 1, 0, 0, 1]), (.iinc 6 1, []), (.goto (-20), [2])]),
  (false, [(.return_, [])])]
/-- TowerComputer$Translator.call(I)V -/
def m_14_28 : List am_B := [
  (false, [(.aload_n 0, []), (.aload_n 0, []), (.getfield 28, [14, 3, 0]), (.iconst 4, []), (.iadd, []), (.invokevirtual 44, [1, 14, 4, 2, 0, 0, 1]), (.aload_n 0, []), (.iconst 2, []), (.bipush 48, []), (.invokevirtual 47, [1, 14, 6, 3, 0, 0, 1]), (.aload_n 0, []), (.aload_n 0, []), (.iload_n 1, []), (.invokevirtual 60, [1, 14, 2, 2, 1, 0, 1]), (.invokevirtual 57, [1, 14, 8, 2, 0, 0, 1]), (.return_, [])])]
/-- TowerComputer$Translator.write(LTowerComputer$Vm;ILTowerComputer$Subs;Z)V -/
def m_14_29 : List am_B := [
  (false, [(.iconst 0, []), (.istore 5, []), (.iload_n 2, []), (.istore 6, []), (.nop, [1])]),
  (true, [(.iload 6, []), (.aload_n 1, []), (.getfield 96, [16, 3, 0]), (.if_icmp .ge 511, [33]), (.aload_n 1, []), (.getfield 97, [16, 1, 1]), (.iload 6, []), (.saload, []), (.istore 7, []), (.aload_n 1, []), (.getfield 100, [16, 2, 1]), (.iload 6, []), (.saload, []), (.istore 8, []), (.iload 5, []), (.ifCond .le 49, [3]), (.aload_n 1, []), (.getfield 103, [16, 0, 1]), (.iload 6, []), (.baload, [2]), (.bipush 11, []), (.if_icmp .eq 15, [2]), (.aload_n 1, []), (.getfield 103, [16, 0, 1]), (.iload 6, []), (.baload, [2]), (.bipush 20, []), (.if_icmp .ne 25, [3]), (.nop, [2])]),
  (true, [(.aload_n 0, []), (.iconst 0, []), (.invokevirtual 44, [1, 14, 4, 2, 0, 0, 1]), (.aload_n 0, []), (.getfield 25, [14, 4, 1]), (.aload_n 0, []), (.getfield 28, [14, 3, 0]), (.iconst 1, []), (.isub, []), (.iload 5, []), (.i2s, []), (.sastore, []), (.iconst 0, []), (.istore 5, []), (.nop, [3])]),
  (true, [(.aload_n 0, []), (.getfield 28, [14, 3, 0]), (.istore 9, []), (.aload_n 1, []), (.getfield 103, [16, 0, 1]), (.iload 6, []), (.baload, [2]), (.tableswitch 375 0 19 #[95, 106, 117, 126, 153, 135, 144, 162, 171, 179, 187, 195, 204, 213, 233, 270, 279, 304, 323, 343], [30, 4, 5, 6, 7, 10, 8, 9, 11, 12, 13, 14, 15, 16, 17, 18, 21, 22, 23, 26, 29])]),
  (false, [(.aload_n 0, []), (.iload 7, []), (.iload 8, []), (.invokevirtual 107, [1, 14, 23, 3, 0, 0, 1]), (.goto 278, [31])]),
  (false, [(.aload_n 0, []), (.iload 7, []), (.iload 8, []), (.invokevirtual 110, [1, 14, 24, 3, 0, 0, 1]), (.goto 267, [31])]),
  (false, [(.aload_n 0, []), (.bipush 66, []), (.invokevirtual 113, [1, 14, 25, 2, 0, 0, 1]), (.goto 258, [31])]),
  (false, [(.aload_n 0, []), (.bipush 71, []), (.invokevirtual 113, [1, 14, 25, 2, 0, 0, 1]), (.goto 249, [31])]),
  (false, [(.aload_n 0, []), (.bipush 64, []), (.invokevirtual 113, [1, 14, 25, 2, 0, 0, 1]), (.goto 240, [31])]),
  (false, [(.aload_n 0, []), (.bipush 85, []), (.invokevirtual 113, [1, 14, 25, 2, 0, 0, 1]), (.goto 231, [31])]),
  (false, [(.aload_n 0, []), (.bipush 115, []), (.invokevirtual 116, [1, 14, 26, 2, 0, 0, 1]), (.goto 222, [31])]),
  (false, [(.aload_n 0, []), (.bipush 113, []), (.invokevirtual 116, [1, 14, 26, 2, 0, 0, 1]), (.goto 213, [31])]),
  (false, [(.aload_n 0, []), (.iconst 2, []), (.invokevirtual 119, [1, 14, 14, 2, 0, 0, 1]), (.goto 205, [31])]),
  (false, [(.aload_n 0, []), (.iconst 3, []), (.invokevirtual 119, [1, 14, 14, 2, 0, 0, 1]), (.goto 197, [31])]),
  (false, [(.aload_n 0, []), (.iconst 4, []), (.invokevirtual 119, [1, 14, 14, 2, 0, 0, 1]), (.goto 189, [31])]),
  (false, [(.aload_n 0, []), (.iload 7, []), (.invokevirtual 75, [1, 14, 9, 2, 0, 0, 1]), (.goto 180, [31])]),
  (false, [(.aload_n 0, []), (.iload 7, []), (.invokevirtual 57, [1, 14, 8, 2, 0, 0, 1]), (.goto 171, [31])]),
  (false, [(.aload_n 0, []), (.invokevirtual 84, [1, 14, 11, 1, 0, 0, 1]), (.aload_n 0, []), (.iload 7, []), (.invokevirtual 37, [1, 14, 5, 2, 0, 0, 1]), (.aload_n 0, []), (.bipush 12, []), (.iconst 5, []), (.invokevirtual 40, [1, 14, 7, 3, 0, 0, 1]), (.goto 151, [31])]),
  (false, [(.aload_n 0, []), (.iload 7, []), (.iload 8, []), (.aload_n 3, []), (.getfield 122, [12, 3, 1]), (.iload 7, []), (.iaload, []), (.aload_n 3, []), (.getfield 125, [12, 2, 1]), (.iload 7, []), (.iaload, []), (.iconst 3, []), (.if_icmp .ne 7, [19]), (.iconst 1, []), (.goto 4, [20])]),
  (false, [(.iconst 0, []), (.nop, [20])]),
  (false, [(.iadd, []), (.iload 4, []), (.invokevirtual 130, [1, 14, 27, 5, 0, 0, 1]), (.goto 114, [31])]),
  (false, [(.aload_n 0, []), (.iload 7, []), (.invokevirtual 134, [1, 14, 28, 2, 0, 0, 1]), (.goto 105, [31])]),
  (false, [(.aload_n 0, []), (.aload_n 0, []), (.iconst 1, []), (.invokevirtual 53, [1, 14, 1, 2, 1, 0, 1]), (.invokevirtual 57, [1, 14, 8, 2, 0, 0, 1]), (.iload 4, []), (.ifCond .eq 91, [31]), (.aload_n 0, []), (.getfield 25, [14, 4, 1]), (.iload 9, []), (.iconst 2, []), (.sastore, []), (.goto 80, [31])]),
  (false, [(.aload_n 0, []), (.iload 7, []), (.iconst 1, []), (.if_icmp .ne 7, [24]), (.iconst 5, []), (.goto 5, [25])]),
  (false, [(.bipush 7, []), (.nop, [25])]),
  (false, [(.invokevirtual 119, [1, 14, 14, 2, 0, 0, 1]), (.goto 61, [31])]),
  (false, [(.aload_n 0, []), (.iload 7, []), (.iconst 1, []), (.if_icmp .ne 8, [27]), (.bipush 6, []), (.goto 5, [28])]),
  (false, [(.bipush 8, []), (.nop, [28])]),
  (false, [(.invokevirtual 119, [1, 14, 14, 2, 0, 0, 1]), (.goto 41, [31])]),
  (false, [(.aload_n 0, []), (.iload 7, []), (.invokevirtual 44, [1, 14, 4, 2, 0, 0, 1]), (.aload_n 0, []), (.iconst 2, []), (.bipush 48, []), (.invokevirtual 47, [1, 14, 6, 3, 0, 0, 1]), (.aload_n 0, []), (.iconst 3, []), (.invokevirtual 44, [1, 14, 4, 2, 0, 0, 1]), (.aload_n 0, []), (.iconst 2, []), (.bipush 66, []), (.invokevirtual 47, [1, 14, 6, 3, 0, 0, 1]), (.aload_n 0, []), (.invokevirtual 81, [1, 14, 10, 1, 0, 0, 1]), (.goto 9, [31])]),
  (false, [(.iload 7, []), (.iconst 3, []), (.iadd, []), (.istore 5, []), (.nop, [31])]),
  (true, [(.aload_n 1, []), (.getfield 103, [16, 0, 1]), (.iload 6, []), (.baload, [2]), (.bipush 20, []), (.if_icmp .eq 30, [32]), (.aload_n 0, []), (.getfield 28, [14, 3, 0]), (.iload 9, []), (.if_icmp .le 21, [32]), (.iload 5, []), (.ifCond .le 16, [32]), (.aload_n 0, []), (.getfield 25, [14, 4, 1]), (.iload 9, []), (.iload 5, []), (.i2s, []), (.sastore, []), (.iconst 0, []), (.istore 5, []), (.nop, [32])]),
  (false, [(.iinc 6 1, []), (.goto (-514), [1])]),
  (false, [(.return_, [])])]
/-- TowerComputer$Translator.settle(I)V -/
def m_14_30 : List am_B := [
  (false, [(.iload_n 1, []), (.istore_n 2, []), (.nop, [1])]),
  (true, [(.iload_n 2, []), (.aload_n 0, []), (.getfield 28, [14, 3, 0]), (.if_icmp .ge 36, [3]), (.aload_n 0, []), (.getfield 14, [14, 1, 1]), (.iload_n 2, []), (.saload, []), (.ifCond .lt 21, [2]), (.aload_n 0, []), (.getfield 10, [14, 0, 1]), (.iload_n 2, []), (.aload_n 0, []), (.getfield 21, [14, 2, 1]), (.aload_n 0, []), (.getfield 14, [14, 1, 1]), (.iload_n 2, []), (.saload, []), (.iaload, []), (.i2s, []), (.sastore, []), (.nop, [2])]),
  (false, [(.iinc 2 1, []), (.goto (-38), [1])]),
  (false, [(.return_, [])])]
/-- TowerComputer$Variables.<init>()V -/
def m_15_0 : List am_B := [
  (false, [(.aload_n 0, []), (.invokespecial 3, [3, 0, 0, 1, 0, 0, 0]), (.aload_n 0, []), (.bipush 50, []), (.newarray .int, [1]), (.putfield 11, [15, 0, 1]), (.aload_n 0, []), (.bipush 50, []), (.newarray .int, [1]), (.putfield 15, [15, 1, 1]), (.aload_n 0, []), (.bipush 50, []), (.newarray .int, [1]), (.putfield 18, [15, 2, 1]), (.aload_n 0, []), (.bipush 50, []), (.newarray .int, [1]), (.putfield 21, [15, 3, 1]), (.aload_n 0, []), (.bipush 50, []), (.newarray .int, [1]), (.putfield 24, [15, 4, 1]), (.return_, [])])]
/-- TowerComputer$Variables.find(I)I -/
def m_15_1 : List am_B := [
  (false, [(.iconst 0, []), (.istore_n 2, []), (.nop, [1])]),
  (true, [(.iload_n 2, []), (.aload_n 0, []), (.getfield 27, [15, 5, 0]), (.if_icmp .ge 21, [3]), (.aload_n 0, []), (.getfield 11, [15, 0, 1]), (.iload_n 2, []), (.iaload, []), (.iload_n 1, []), (.if_icmp .ne 5, [2]), (.iload_n 2, []), (.ireturn, [])]),
  (false, [(.iinc 2 1, []), (.goto (-23), [1])]),
  (false, [(.iconst (-1), []), (.ireturn, [])])]
/-- TowerComputer$Variables.add(IIIII)V -/
def m_15_2 : List am_B := [
  (false, [(.aload_n 0, []), (.getfield 11, [15, 0, 1]), (.aload_n 0, []), (.getfield 27, [15, 5, 0]), (.iload_n 1, []), (.iastore, []), (.aload_n 0, []), (.getfield 15, [15, 1, 1]), (.aload_n 0, []), (.getfield 27, [15, 5, 0]), (.iload_n 2, []), (.iastore, []), (.aload_n 0, []), (.getfield 18, [15, 2, 1]), (.aload_n 0, []), (.getfield 27, [15, 5, 0]), (.iload_n 3, []), (.iastore, []), (.aload_n 0, []), (.getfield 21, [15, 3, 1]), (.aload_n 0, []), (.getfield 27, [15, 5, 0]), (.iload 4, []), (.iastore, []), (.aload_n 0, []), (.getfield 24, [15, 4, 1]), (.aload_n 0, []), (.getfield 27, [15, 5, 0]), (.iload 5, []), (.iastore, []), (.aload_n 0, []), (.dup, []), (.getfield 27, [15, 5, 0]), (.iconst 1, []), (.iadd, []), (.putfield 27, [15, 5, 0]), (.return_, [])])]
/-- TowerComputer$Vm.<init>()V -/
def m_16_0 : List am_B := [
  (false, [(.aload_n 0, []), (.invokespecial 1, [3, 0, 0, 1, 0, 0, 0]), (.aload_n 0, []), (.sipush 9000, []), (.newarray .byte, [2]), (.putfield 9, [16, 0, 1]), (.aload_n 0, []), (.sipush 9000, []), (.newarray .short, [3]), (.putfield 13, [16, 1, 1]), (.aload_n 0, []), (.sipush 9000, []), (.newarray .short, [3]), (.putfield 17, [16, 2, 1]), (.return_, [])])]
/-- TowerComputer$Vm.add(III)V -/
def m_16_1 : List am_B := [
  (false, [(.aload_n 0, []), (.getfield 9, [16, 0, 1]), (.aload_n 0, []), (.getfield 20, [16, 3, 0]), (.iload_n 1, []), (.i2b, []), (.bastore, [2]), (.aload_n 0, []), (.getfield 13, [16, 1, 1]), (.aload_n 0, []), (.getfield 20, [16, 3, 0]), (.iload_n 2, []), (.i2s, []), (.sastore, []), (.aload_n 0, []), (.getfield 17, [16, 2, 1]), (.aload_n 0, []), (.getfield 20, [16, 3, 0]), (.iload_n 3, []), (.i2s, []), (.sastore, []), (.aload_n 0, []), (.dup, []), (.getfield 20, [16, 3, 0]), (.iconst 1, []), (.iadd, []), (.putfield 20, [16, 3, 0]), (.return_, [])])]
/-- TowerComputer$Vm.op(I)V -/
def m_16_2 : List am_B := [
  (false, [(.aload_n 0, []), (.iload_n 1, []), (.iconst 0, []), (.iconst 0, []), (.invokevirtual 24, [1, 16, 1, 4, 0, 0, 1]), (.return_, [])])]
/-- TowerComputer$Vm.push(II)V -/
def m_16_3 : List am_B := [
  (false, [(.aload_n 0, []), (.iconst 0, []), (.iload_n 1, []), (.iload_n 2, []), (.invokevirtual 24, [1, 16, 1, 4, 0, 0, 1]), (.return_, [])])]
/-- TowerComputer$Vm.pop(II)V -/
def m_16_4 : List am_B := [
  (false, [(.aload_n 0, []), (.iconst 1, []), (.iload_n 1, []), (.iload_n 2, []), (.invokevirtual 24, [1, 16, 1, 4, 0, 0, 1]), (.return_, [])])]
/-- TowerComputer$Vm.label()I -/
def m_16_5 : List am_B := [
  (false, [(.aload_n 0, []), (.dup, []), (.getfield 28, [16, 4, 0]), (.iconst 1, []), (.iadd, []), (.putfield 28, [16, 4, 0]), (.aload_n 0, []), (.getfield 28, [16, 4, 0]), (.iconst 1, []), (.isub, []), (.ireturn, [])])]
/-- TowerComputerModel.<init>()V -/
def m_17_0 : List am_B := [
  (false, [(.aload_n 0, []), (.invokespecial 1, [3, 0, 0, 1, 0, 0, 0]), (.aload_n 0, []), (.sipush 4000, []), (.newarray .int, [1]), (.putfield 7, [17, 0, 1]), (.aload_n 0, []), (.sipush 4000, []), (.newarray .int, [1]), (.putfield 13, [17, 2, 1]), (.aload_n 0, []), (.iconst (-1), []), (.putfield 16, [17, 4, 0]), (.aload_n 0, []), (.sipush 2002, []), (.newarray .int, [1]), (.putfield 20, [17, 5, 1]), (.aload_n 0, []), (.sipush 2002, []), (.newarray .int, [1]), (.putfield 23, [17, 6, 1]), (.aload_n 0, []), (.sipush 2002, []), (.newarray .int, [1]), (.putfield 26, [17, 7, 1]), (.aload_n 0, []), (.sipush 2002, []), (.newarray .int, [1]), (.putfield 29, [17, 8, 1]), (.aload_n 0, []), (.bipush 13, []), (.newarray .int, [1]), (.putfield 32, [17, 13, 1]), (.aload_n 0, []), (.bipush 13, []), (.newarray .int, [1]), (.putfield 35, [17, 15, 1]), (.aload_n 0, []), (.bipush 61, []), (.newarray .int, [1]), (.putfield 38, [17, 18, 1]), (.aload_n 0, []), (.bipush 61, []), (.newarray .int, [1]), (.putfield 41, [17, 19, 1]), (.aload_n 0, []), (.bipush 61, []), (.newarray .int, [1]), (.putfield 44, [17, 20, 1]), (.aload_n 0, []), (.bipush 61, []), (.newarray .int, [1]), (.putfield 47, [17, 21, 1]), (.aload_n 0, []), (.bipush 61, []), (.newarray .int, [1]), (.putfield 50, [17, 22, 1]), (.aload_n 0, []), (.bipush 61, []), (.newarray .int, [1]), (.putfield 53, [17, 23, 1]), (.aload_n 0, []), (.bipush 61, []), (.newarray .int, [1]), (.putfield 56, [17, 24, 1]), (.aload_n 0, []), (.sipush 1100, []), (.newarray .int, [1]), (.putfield 59, [17, 26, 1]), (.aload_n 0, []), (.sipush 1100, []), (.newarray .int, [1]), (.putfield 62, [17, 27, 1]), (.aload_n 0, []), (.sipush 1100, []), (.newarray .int, [1]), (.putfield 65, [17, 28, 1]), (.aload_n 0, []), (.sipush 1100, []), (.newarray .int, [1]), (.putfield 68, [17, 29, 1]), (.aload_n 0, []), (.sipush 1100, []), (.newarray .int, [1]), (.putfield 71, [17, 30, 1]), (.aload_n 0, []), (.sipush 1100, []), (.newarray .int, [1]), (.putfield 74, [17, 31, 1]), (.aload_n 0, []), (.sipush 1100, []), (.newarray .int, [1]), (.putfield 77, [17, 32, 1]), (.aload_n 0, []), (.sipush 5000, []), (.newarray .int, [1]), (.putfield 80, [17, 34, 1]), (.aload_n 0, []), (.sipush 5000, []), (.newarray .int, [1]), (.putfield 83, [17, 35, 1]), (.aload_n 0, []), (.sipush 5000, []), (.newarray .int, [1]), (.putfield 86, [17, 36, 1]), (.aload_n 0, []), (.sipush 5000, []), (.newarray .int, [1]), (.putfield 89, [17, 37, 1]), (.aload_n 0, []), (.sipush 5000, []), (.newarray .int, [1]), (.putfield 92, [17, 38, 1]), (.aload_n 0, []), (.sipush 1000, []), (.newarray .int, [1]), (.putfield 95, [17, 40, 1]), (.aload_n 0, []), (.sipush 1000, []), (.newarray .int, [1]), (.putfield 98, [17, 41, 1]), (.aload_n 0, []), (.sipush 1000, []), (.newarray .int, [1]), (.putfield 101, [17, 42, 1]), (.aload_n 0, []), (.sipush 1000, []), (.newarray .int, [1]), (.putfield 104, [17, 43, 1]), (.aload_n 0, []), (.sipush 1000, []), (.newarray .int, [1]), (.putfield 107, [17, 44, 1]), (.aload_n 0, []), (.sipush 1000, []), (.newarray .int, [1]), (.putfield 110, [17, 45, 1]), (.aload_n 0, []), (.sipush 1000, []), (.newarray .int, [1]), (.putfield 113, [17, 46, 1]), (.aload_n 0, []), (.sipush 1000, []), (.newarray .int, [1]), (.putfield 116, [17, 47, 1]), (.aload_n 0, []), (.bipush 64, []), (.newarray .int, [1]), (.putfield 119, [17, 52, 1]), (.aload_n 0, []), (.bipush 64, []), (.newarray .int, [1]), (.putfield 122, [17, 53, 1]), (.aload_n 0, []), (.bipush 64, []), (.newarray .int, [1]), (.putfield 125, [17, 54, 1]), (.aload_n 0, []), (.bipush 64, []), (.newarray .int, [1]), (.putfield 128, [17, 56, 1]), (.aload_n 0, []), (.bipush 64, []), (.newarray .int, [1]), (.putfield 131, [17, 57, 1]), (.aload_n 0, []), (.bipush 64, []), (.newarray .int, [1]), (.putfield 134, [17, 58, 1]), (.aload_n 0, []), (.bipush 64, []), (.newarray .int, [1]), (.putfield 137, [17, 59, 1]), (.aload_n 0, []), (.bipush 9, []), (.newarray .int, [1]), (.putfield 140, [17, 63, 1]), (.aload_n 0, []), (.bipush 8, []), (.newarray .int, [1]), (.putfield 143, [17, 64, 1]), (.aload_n 0, []), (.bipush 60, []), (.newarray .int, [1]), (.putfield 146, [17, 65, 1]), (.aload_n 0, []), (.bipush 60, []), (.newarray .boolean, [4]), (.putfield 149, [17, 66, 1]), (.aload_n 0, []), (.bipush 60, []), (.newarray .int, [1]), (.putfield 153, [17, 67, 1]), (.aload_n 0, []), (.bipush 61, []), (.newarray .int, [1]), (.putfield 156, [17, 68, 1]), (.aload_n 0, []), (.sipush 5000, []), (.newarray .int, [1]), (.putfield 159, [17, 73, 1]), (.aload_n 0, []), (.sipush 4000, []), (.newarray .int, [1]), (.putfield 162, [17, 75, 1]), (.aload_n 0, []), (.sipush 12000, []), (.newarray .int, [1]), (.putfield 165, [17, 77, 1]), (.aload_n 0, []), (.sipush 12000, []), (.newarray .int, [1]), (.putfield 168, [17, 78, 1]), (.aload_n 0, []), (.sipush 12000, []), (.newarray .int, [1]), (.putfield 171, [17, 79, 1]), (.aload_n 0, []), (.sipush 16512, []), (.newarray .int, [1]), (.putfield 174, [17, 80, 1]), (.aload_n 0, []), (.bipush 100, []), (.newarray .int, [1]), (.putfield 177, [17, 82, 1]), (.aload_n 0, []), (.bipush 100, []), (.newarray .int, [1]), (.putfield 180, [17, 83, 1]), (.aload_n 0, []), (.bipush 12, []), (.newarray .int, [1]), (.putfield 183, [17, 84, 1]), (.aload_n 0, []), (.sipush 1000, []), (.newarray .int, [1]), (.putfield 186, [17, 85, 1]), (.aload_n 0, []), (.sipush 20000, []), (.newarray .int, [1]), (.putfield 189, [17, 86, 1]), (.aload_n 0, []), (.bipush 41, []), (.newarray .int, [1]), (.putfield 192, [17, 90, 1]), (.aload_n 0, []), (.bipush 41, []), (.newarray .int, [1]), (.putfield 195, [17, 91, 1]), (.aload_n 0, []), (.bipush 41, []), (.newarray .int, [1]), (.putfield 198, [17, 92, 1]), (.aload_n 0, []), (.bipush 41, []), (.newarray .int, [1]), (.putfield 201, [17, 93, 1]), (.aload_n 0, []), (.sipush 1200, []), (.newarray .int, [1]), (.putfield 204, [17, 94, 1]), (.aload_n 0, []), (.sipush 200, []), (.newarray .int, [1]), (.putfield 207, [17, 101, 1]), (.aload_n 0, []), (.sipush 3000, []), (.newarray .int, [1]), (.putfield 210, [17, 105, 1]), (.aload_n 0, []), (.bipush 8, []), (.newarray .int, [1]), (.putfield 213, [17, 109, 1]), (.aload_n 0, []), (.sipush 2000, []), (.newarray .int, [1]), (.putfield 216, [17, 111, 1]), (.aload_n 0, []), (.bipush 100, []), (.newarray .int, [1]), (.putfield 219, [17, 113, 1]), (.aload_n 0, []), (.bipush 100, []), (.newarray .int, [1]), (.putfield 222, [17, 114, 1]), (.aload_n 0, []), (.bipush 100, []), (.newarray .int, [1]), (.putfield 225, [17, 115, 1]), (.aload_n 0, []), (.sipush 2000, []), (.newarray .int, [1]), (.putfield 228, [17, 116, 1]), (.aload_n 0, []), (.ldc 231, [0, 32768]), (.newarray .int, [1]), (.putfield 232, [17, 117, 1]), (.aload_n 0, []), (.bipush 17, []), (.newarray .int, [1]), (.putfield 235, [17, 123, 1]), (.aload_n 0, []), (.bipush 18, []), (.newarray .int, [1]), (.putfield 238, [17, 124, 1]), (.aload_n 0, []), (.sipush 200, []), (.newarray .boolean, [4]), (.putfield 241, [17, 126, 1]), (.aload_n 0, []), (.sipush 200, []), (.newarray .int, [1]), (.putfield 244, [17, 127, 1]), (.aload_n 0, []), (.sipush 200, []), (.newarray .int, [1]), (.putfield 247, [17, 128, 1]), (.aload_n 0, []), (.sipush 200, []), (.newarray .int, [1]), (.putfield 250, [17, 129, 1]), (.aload_n 0, []), (.bipush 18, []), (.newarray .int, [1]), (.putfield 253, [17, 130, 1]), (.aload_n 0, []), (.sipush 400, []), (.newarray .int, [1]), (.putfield 256, [17, 132, 1]), (.aload_n 0, []), (.sipush 401, []), (.newarray .int, [1]), (.putfield 259, [17, 133, 1]), (.aload_n 0, []), (.sipush 700, []), (.newarray .int, [1]), (.putfield 262, [17, 135, 1]), (.aload_n 0, []), (.sipush 700, []), (.newarray .int, [1]), (.putfield 265, [17, 136, 1]), (.aload_n 0, []), (.sipush 700, []), (.newarray .int, [1]), (.putfield 268, [17, 137, 1]), (.aload_n 0, []), (.sipush 700, []), (.newarray .int, [1]), (.putfield 271, [17, 138, 1]), (.aload_n 0, []), (.sipush 700, []), (.newarray .int, [1]), (.putfield 274, [17, 139, 1]), (.aload_n 0, []), (.sipush 700, []), (.newarray .int, [1]), (.putfield 277, [17, 140, 1]), (.aload_n 0, []), (.sipush 700, []), (.newarray .int, [1]), (.putfield 280, [17, 141, 1]), (.aload_n 0, []), (.sipush 700, []), (.newarray .int, [1]), (.putfield 283, [17, 142, 1]), (.aload_n 0, []), (.bipush 18, []), (.newarray .int, [1]), (.putfield 286, [17, 143, 1]), (.aload_n 0, []), (.sipush 700, []), (.newarray .int, [1]), (.putfield 289, [17, 145, 1]), (.aload_n 0, []), (.sipush 700, []), (.newarray .int, [1]), (.putfield 292, [17, 146, 1]), (.aload_n 0, []), (.sipush 700, []), (.newarray .boolean, [4]), (.putfield 295, [17, 147, 1]), (.aload_n 0, []), (.sipush 400, []), (.newarray .int, [1]), (.putfield 298, [17, 151, 1]), (.aload_n 0, []), (.sipush 200, []), (.newarray .int, [1]), (.putfield 301, [17, 153, 1]), (.aload_n 0, []), (.sipush 200, []), (.newarray .int, [1]), (.putfield 304, [17, 154, 1]), (.aload_n 0, []), (.sipush 256, []), (.newarray .boolean, [4]), (.putfield 307, [17, 155, 1]), (.aload_n 0, []), (.bipush 16, []), (.newarray .long, [6]), (.putfield 310, [17, 156, 1]), (.aload_n 0, []), (.bipush 16, []), (.newarray .long, [6]), (.putfield 314, [17, 157, 1]), (.aload_n 0, []), (.ldc_w 317, [0, 40000]), (.newarray .int, [1]), (.putfield 318, [17, 159, 1]), (.aload_n 0, []), (.ldc_w 317, [0, 40000]), (.newarray .int, [1]), (.putfield 321, [17, 160, 1]), (.aload_n 0, []), (.sipush 1500, []), (.newarray .boolean, [4]), (.putfield 324, [17, 162, 1]), (.aload_n 0, []), (.sipush 1500, []), (.newarray .int, [1]), (.putfield 327, [17, 163, 1]), (.aload_n 0, []), (.sipush 1500, []), (.newarray .int, [1]), (.putfield 330, [17, 164, 1]), (.aload_n 0, []), (.sipush 1500, []), (.newarray .int, [1]), (.putfield 333, [17, 165, 1]), (.aload_n 0, []), (.sipush 1500, []), (.newarray .int, [1]), (.putfield 336, [17, 167, 1]), (.aload_n 0, []), (.sipush 1500, []), (.newarray .int, [1]), (.putfield 339, [17, 168, 1]), (.aload_n 0, []), (.ldc_w 317, [0, 40000]), (.newarray .int, [1]), (.putfield 342, [17, 169, 1]), (.aload_n 0, []), (.sipush 20000, []), (.newarray .int, [1]), (.putfield 345, [17, 171, 1]), (.aload_n 0, []), (.sipush 20000, []), (.newarray .int, [1]), (.putfield 348, [17, 172, 1]), (.aload_n 0, []), (.sipush 1500, []), (.newarray .int, [1]), (.putfield 351, [17, 175, 1]), (.aload_n 0, []), (.invokevirtual 354, [1, 17, 52, 1, 0, 0, 1]), (.return_, [])])]
/-- TowerComputerModel.lay(I)V -/
def m_17_1 : List am_B := [
  (false, [(.iconst 0, []), (.istore_n 2, []), (.nop, [1])]),
  (true, [(.iload_n 2, []), (.iconst 4, []), (.if_icmp .ge 33, [2]), (.aload_n 0, []), (.getfield 7, [17, 0, 1]), (.aload_n 0, []), (.getfield 357, [17, 1, 0]), (.iload_n 2, []), (.iadd, []), (.iload_n 1, []), (.bipush 24, []), (.bipush 8, []), (.iload_n 2, []), (.imul, []), (.isub, []), (.ishr, []), (.sipush 255, []), (.iand, []), (.iastore, []), (.iinc 2 1, []), (.goto (-32), [1])]),
  (false, [(.aload_n 0, []), (.aload_n 0, []), (.getfield 357, [17, 1, 0]), (.iconst 4, []), (.iadd, []), (.putfield 357, [17, 1, 0]), (.return_, [])])]
/-- TowerComputerModel.feed(IIIII)Z -/
def m_17_2 : List am_B := [
  (false, [(.aload_n 0, []), (.getfield 357, [17, 1, 0]), (.bipush 20, []), (.iadd, []), (.sipush 4000, []), (.if_icmp .le 5, [1]), (.iconst 0, []), (.ireturn, [1])]),
  (false, [(.aload_n 0, []), (.iload_n 1, []), (.invokevirtual 360, [1, 17, 1, 2, 0, 0, 1]), (.aload_n 0, []), (.iload_n 2, []), (.invokevirtual 360, [1, 17, 1, 2, 0, 0, 1]), (.aload_n 0, []), (.iload_n 3, []), (.invokevirtual 360, [1, 17, 1, 2, 0, 0, 1]), (.aload_n 0, []), (.iload 4, []), (.invokevirtual 360, [1, 17, 1, 2, 0, 0, 1]), (.aload_n 0, []), (.iload 5, []), (.invokevirtual 360, [1, 17, 1, 2, 0, 0, 1]), (.iconst 1, []), (.ireturn, [1])])]
/-- TowerComputerModel.takes(I)Z -/
def m_17_3 : List am_B := [
  (false, [(.iload_n 1, []), (.ifCond .lt 11, [1]), (.iload_n 1, []), (.aload_n 0, []), (.getfield 357, [17, 1, 0]), (.if_icmp .le 5, [2]), (.nop, [1])]),
  (false, [(.iconst 0, []), (.ireturn, [1])]),
  (false, [(.aload_n 0, []), (.iload_n 1, []), (.putfield 364, [17, 3, 0]), (.iconst 0, []), (.istore_n 2, []), (.nop, [3])]),
  (true, [(.iload_n 2, []), (.iload_n 1, []), (.if_icmp .ge 21, [4]), (.aload_n 0, []), (.getfield 13, [17, 2, 1]), (.iload_n 2, []), (.aload_n 0, []), (.getfield 7, [17, 0, 1]), (.iload_n 2, []), (.iaload, []), (.iastore, []), (.iinc 2 1, []), (.goto (-20), [3])]),
  (false, [(.aload_n 0, []), (.iconst 0, []), (.putfield 357, [17, 1, 0]), (.iconst 1, []), (.ireturn, [1])])]
/-- TowerComputerModel.at(I)I -/
def m_17_4 : List am_B := [
  (false, [(.iload_n 1, []), (.aload_n 0, []), (.getfield 364, [17, 3, 0]), (.if_icmp .ge 12, [1]), (.aload_n 0, []), (.getfield 13, [17, 2, 1]), (.iload_n 1, []), (.iaload, []), (.goto 4, [2])]),
  (false, [(.iconst (-1), []), (.nop, [2])]),
  (false, [(.ireturn, [])])]
/-- TowerComputerModel.isLetter(I)Z -/
def m_17_5 : List am_B := [
  (false, [(.iload_n 0, []), (.bipush 97, []), (.if_icmp .lt 9, [1]), (.iload_n 0, []), (.bipush 122, []), (.if_icmp .le 15, [2]), (.nop, [1])]),
  (true, [(.iload_n 0, []), (.bipush 65, []), (.if_icmp .lt 13, [3]), (.iload_n 0, []), (.bipush 90, []), (.if_icmp .gt 7, [3]), (.nop, [2])]),
  (false, [(.iconst 1, []), (.goto 4, [4])]),
  (false, [(.iconst 0, []), (.nop, [4])]),
  (false, [(.ireturn, [1])])]
/-- TowerComputerModel.isDigit(I)Z -/
def m_17_6 : List am_B := [
  (false, [(.iload_n 0, []), (.bipush 48, []), (.if_icmp .lt 13, [1]), (.iload_n 0, []), (.bipush 57, []), (.if_icmp .gt 7, [1]), (.iconst 1, []), (.goto 4, [2])]),
  (false, [(.iconst 0, []), (.nop, [2])]),
  (false, [(.ireturn, [1])])]
/-- TowerComputerModel.isWordByte(I)Z -/
def m_17_7 : List am_B := [
  (false, [(.iload_n 0, []), (.invokestatic 367, [0, 17, 5, 1, 1, 0, 1]), (.ifCond .ne 16, [1]), (.iload_n 0, []), (.invokestatic 371, [0, 17, 6, 1, 1, 0, 1]), (.ifCond .ne 9, [1]), (.iload_n 0, []), (.bipush 95, []), (.if_icmp .ne 7, [2]), (.nop, [1])]),
  (false, [(.iconst 1, []), (.goto 4, [3])]),
  (false, [(.iconst 0, []), (.nop, [3])]),
  (false, [(.ireturn, [1])])]
/-- TowerComputerModel.token(IIII)V -/
def m_17_8 : List am_B := [
  (false, [(.aload_n 0, []), (.getfield 20, [17, 5, 1]), (.aload_n 0, []), (.getfield 374, [17, 9, 0]), (.iload_n 1, []), (.iastore, []), (.aload_n 0, []), (.getfield 23, [17, 6, 1]), (.aload_n 0, []), (.getfield 374, [17, 9, 0]), (.iload_n 2, []), (.iastore, []), (.aload_n 0, []), (.getfield 26, [17, 7, 1]), (.aload_n 0, []), (.getfield 374, [17, 9, 0]), (.iload_n 3, []), (.iload_n 2, []), (.isub, []), (.iastore, []), (.aload_n 0, []), (.getfield 29, [17, 8, 1]), (.aload_n 0, []), (.getfield 374, [17, 9, 0]), (.iload 4, []), (.iastore, []), (.aload_n 0, []), (.aload_n 0, []), (.getfield 374, [17, 9, 0]), (.iconst 1, []), (.iadd, []), (.putfield 374, [17, 9, 0]), (.return_, [])])]
/-- TowerComputerModel.skip(I)I -/
def m_17_9 : List am_B := [
  (false, [(.iload_n 1, []), (.istore_n 2, []), (.nop, [1])]),
  (true, [(.iload_n 2, []), (.aload_n 0, []), (.getfield 364, [17, 3, 0]), (.if_icmp .ge 178, [12]), (.aload_n 0, []), (.getfield 13, [17, 2, 1]), (.iload_n 2, []), (.iaload, []), (.istore_n 3, []), (.iload_n 3, []), (.bipush 9, []), (.if_icmp .eq 21, [2]), (.iload_n 3, []), (.bipush 10, []), (.if_icmp .eq 15, [2]), (.iload_n 3, []), (.bipush 13, []), (.if_icmp .eq 9, [2]), (.iload_n 3, []), (.bipush 32, []), (.if_icmp .ne 10, [3]), (.nop, [2])]),
  (false, [(.iload_n 2, []), (.iconst 1, []), (.iadd, []), (.istore_n 2, []), (.goto 137, [11])]),
  (false, [(.iload_n 3, []), (.bipush 47, []), (.if_icmp .ne 41, [5]), (.aload_n 0, []), (.iload_n 2, []), (.iconst 1, []), (.iadd, []), (.invokevirtual 377, [1, 17, 4, 2, 1, 0, 1]), (.bipush 47, []), (.if_icmp .ne 29, [5]), (.nop, [4])]),
  (true, [(.iload_n 2, []), (.aload_n 0, []), (.getfield 364, [17, 3, 0]), (.if_icmp .ge 111, [11]), (.aload_n 0, []), (.getfield 13, [17, 2, 1]), (.iload_n 2, []), (.iaload, []), (.bipush 10, []), (.if_icmp .eq 100, [11]), (.iload_n 2, []), (.iconst 1, []), (.iadd, []), (.istore_n 2, []), (.goto (-23), [4])]),
  (true, [(.iload_n 3, []), (.bipush 47, []), (.if_icmp .ne 85, [10]), (.aload_n 0, []), (.iload_n 2, []), (.iconst 1, []), (.iadd, []), (.invokevirtual 377, [1, 17, 4, 2, 1, 0, 1]), (.bipush 42, []), (.if_icmp .ne 73, [10]), (.iload_n 2, []), (.iconst 2, []), (.iadd, []), (.istore 4, []), (.nop, [6])]),
  (true, [(.iload 4, []), (.aload_n 0, []), (.getfield 364, [17, 3, 0]), (.if_icmp .ge 37, [8]), (.aload_n 0, []), (.getfield 13, [17, 2, 1]), (.iload 4, []), (.iaload, []), (.bipush 42, []), (.if_icmp .ne 16, [7]), (.aload_n 0, []), (.iload 4, []), (.iconst 1, []), (.iadd, []), (.invokevirtual 377, [1, 17, 4, 2, 1, 0, 1]), (.bipush 47, []), (.if_icmp .eq 12, [8]), (.nop, [7])]),
  (false, [(.iload 4, []), (.iconst 1, []), (.iadd, []), (.istore 4, []), (.goto (-40), [6])]),
  (true, [(.iload 4, []), (.aload_n 0, []), (.getfield 364, [17, 3, 0]), (.if_icmp .lt 8, [9]), (.bipush (-2), []), (.iload_n 2, []), (.isub, []), (.ireturn, [])]),
  (false, [(.iload 4, []), (.iconst 2, []), (.iadd, []), (.istore_n 2, []), (.goto 5, [11])]),
  (false, [(.iload_n 2, []), (.ireturn, [])]),
  (false, [(.goto (-180), [1])]),
  (false, [(.iload_n 2, []), (.ireturn, [])])]
/-- TowerComputerModel.wordOf([CII)I -/
def m_17_10 : List am_B := [
  (false, [(.iconst 0, []), (.istore 4, []), (.iconst 0, []), (.istore 5, []), (.nop, [1])]),
  (true, [(.iload 5, []), (.aload_n 1, []), (.arraylength, [1]), (.if_icmp .ge 94, [6]), (.iconst 0, []), (.istore 6, []), (.nop, [2])]),
  (true, [(.iload 6, []), (.iload_n 3, []), (.if_icmp .ge 31, [3]), (.aload_n 1, []), (.iload 5, []), (.iload 6, []), (.iadd, []), (.caload, []), (.aload_n 0, []), (.getfield 13, [17, 2, 1]), (.iload_n 2, []), (.iload 6, []), (.iadd, []), (.iaload, []), (.if_icmp .ne 12, [3]), (.iload 6, []), (.iconst 1, []), (.iadd, []), (.istore 6, []), (.goto (-31), [2])]),
  (false, [(.iload 6, []), (.iload_n 3, []), (.if_icmp .ne 18, [4]), (.aload_n 1, []), (.iload 5, []), (.iload 6, []), (.iadd, []), (.caload, []), (.bipush 32, []), (.if_icmp .ne 6, [4]), (.iload 4, []), (.ireturn, [])]),
  (true, [(.aload_n 1, []), (.iload 5, []), (.caload, []), (.bipush 32, []), (.if_icmp .eq 12, [5]), (.iload 5, []), (.iconst 1, []), (.iadd, []), (.istore 5, []), (.goto (-15), [4])]),
  (false, [(.iload 5, []), (.iconst 1, []), (.iadd, []), (.istore 5, []), (.iload 4, []), (.iconst 1, []), (.iadd, []), (.istore 4, []), (.goto (-95), [1])]),
  (false, [(.iconst (-1), []), (.ireturn, [])])]
/-- TowerComputerModel.tokenize(IZ)V -/
def m_17_11 : List am_B := [
  (false, [(.aload_n 0, []), (.iconst 0, []), (.putfield 374, [17, 9, 0]), (.aload_n 0, []), (.iconst 0, []), (.putfield 381, [17, 10, 0]), (.aload_n 0, []), (.iconst 0, []), (.invokevirtual 384, [1, 17, 9, 2, 1, 0, 1]), (.istore_n 3, []), (.iconst 1, []), (.istore 4, []), (.nop, [1])]),
  (true, [(.iload 4, []), (.ifCond .eq 127, [9]), (.iload_n 3, []), (.ifCond .ge 24, [2]), (.aload_n 0, []), (.bipush 6, []), (.bipush (-2), []), (.iload_n 3, []), (.isub, []), (.bipush (-2), []), (.iload_n 3, []), (.isub, []), (.iconst 0, []), (.invokevirtual 387, [1, 17, 8, 5, 0, 0, 1]), (.iconst 0, []), (.istore 4, []), (.goto (-27), [1])]),
  (false, [(.iload_n 3, []), (.aload_n 0, []), (.getfield 364, [17, 3, 0]), (.if_icmp .lt 23, [3]), (.aload_n 0, []), (.iconst 0, []), (.aload_n 0, []), (.getfield 364, [17, 3, 0]), (.aload_n 0, []), (.getfield 364, [17, 3, 0]), (.iconst 0, []), (.invokevirtual 387, [1, 17, 8, 5, 0, 0, 1]), (.iconst 0, []), (.istore 4, []), (.goto (-55), [1])]),
  (false, [(.iload_n 2, []), (.ifCond .eq 11, [4]), (.aload_n 0, []), (.iload_n 3, []), (.invokevirtual 391, [1, 17, 15, 2, 1, 0, 1]), (.goto 8, [5])]),
  (false, [(.aload_n 0, []), (.iload_n 3, []), (.invokevirtual 394, [1, 17, 14, 2, 1, 0, 1]), (.nop, [5])]),
  (true, [(.istore 5, []), (.iload 5, []), (.ifCond .ge 18, [6]), (.aload_n 0, []), (.bipush 6, []), (.iload_n 3, []), (.iload_n 3, []), (.iconst 0, []), (.invokevirtual 387, [1, 17, 8, 5, 0, 0, 1]), (.iconst 0, []), (.istore 4, []), (.goto 32, [8])]),
  (false, [(.aload_n 0, []), (.getfield 374, [17, 9, 0]), (.iload_n 1, []), (.if_icmp .le 17, [7]), (.aload_n 0, []), (.getfield 20, [17, 5, 1]), (.iload_n 1, []), (.bipush 7, []), (.iastore, []), (.iconst 0, []), (.istore 4, []), (.goto 10, [8])]),
  (false, [(.aload_n 0, []), (.iload 5, []), (.invokevirtual 384, [1, 17, 9, 2, 1, 0, 1]), (.istore_n 3, []), (.nop, [8])]),
  (false, [(.goto (-126), [1])]),
  (false, [(.return_, [])])]
/-- TowerComputerModel.wordToken(I[CZ)I -/
def m_17_12 : List am_B := [
  (false, [(.iload_n 1, []), (.istore 4, []), (.nop, [1])]),
  (true, [(.aload_n 0, []), (.iload 4, []), (.invokevirtual 377, [1, 17, 4, 2, 1, 0, 1]), (.invokestatic 397, [0, 17, 7, 1, 1, 0, 1]), (.ifCond .eq 12, [2]), (.iload 4, []), (.iconst 1, []), (.iadd, []), (.istore 4, []), (.goto (-18), [1])]),
  (false, [(.iload 4, []), (.iload_n 1, []), (.isub, []), (.bipush 16, []), (.if_icmp .gt 18, [3]), (.iload_n 3, []), (.ifCond .eq 16, [4]), (.aload_n 0, []), (.getfield 13, [17, 2, 1]), (.iload_n 1, []), (.iaload, []), (.bipush 95, []), (.if_icmp .ne 5, [4]), (.nop, [3])]),
  (false, [(.iconst (-1), []), (.ireturn, [])]),
  (true, [(.aload_n 0, []), (.aload_n 2, []), (.iload_n 1, []), (.iload 4, []), (.iload_n 1, []), (.isub, []), (.invokevirtual 400, [1, 17, 10, 4, 1, 0, 1]), (.istore 5, []), (.aload_n 0, []), (.iload 5, []), (.ifCond .lt 7, [5]), (.iconst 5, []), (.goto 4, [6])]),
  (false, [(.iconst 1, []), (.nop, [6])]),
  (false, [(.iload_n 1, []), (.iload 4, []), (.iload 5, []), (.invokevirtual 387, [1, 17, 8, 5, 0, 0, 1]), (.iload 4, []), (.ireturn, [])])]
/-- TowerComputerModel.numberToken(III)I -/
def m_17_13 : List am_B := [
  (false, [(.iload_n 1, []), (.istore 4, []), (.iconst 0, []), (.istore 5, []), (.nop, [1])]),
  (true, [(.aload_n 0, []), (.iload 4, []), (.invokevirtual 377, [1, 17, 4, 2, 1, 0, 1]), (.invokestatic 371, [0, 17, 6, 1, 1, 0, 1]), (.ifCond .eq 38, [2]), (.iload 4, []), (.iload_n 1, []), (.isub, []), (.iload_n 2, []), (.if_icmp .gt 30, [2]), (.bipush 10, []), (.iload 5, []), (.imul, []), (.aload_n 0, []), (.getfield 13, [17, 2, 1]), (.iload 4, []), (.iaload, []), (.iadd, []), (.bipush 48, []), (.isub, []), (.istore 5, []), (.iload 4, []), (.iconst 1, []), (.iadd, []), (.istore 4, []), (.goto (-44), [1])]),
  (true, [(.iload 4, []), (.iload_n 1, []), (.isub, []), (.iload_n 2, []), (.if_icmp .gt 21, [3]), (.aload_n 0, []), (.iload 4, []), (.invokevirtual 377, [1, 17, 4, 2, 1, 0, 1]), (.invokestatic 397, [0, 17, 7, 1, 1, 0, 1]), (.ifCond .ne 9, [3]), (.iload 5, []), (.iload_n 3, []), (.if_icmp .le 5, [4]), (.nop, [3])]),
  (false, [(.iconst (-1), []), (.ireturn, [])]),
  (false, [(.aload_n 0, []), (.iconst 2, []), (.iload_n 1, []), (.iload 4, []), (.iload 5, []), (.invokevirtual 387, [1, 17, 8, 5, 0, 0, 1]), (.iload 4, []), (.ireturn, [])])]
/-- TowerComputerModel.languageToken(I)I -/
def m_17_14 : List am_B := [
  (false, [(.aload_n 0, []), (.getfield 13, [17, 2, 1]), (.iload_n 1, []), (.iaload, []), (.istore_n 2, []), (.iload_n 2, []), (.invokestatic 367, [0, 17, 5, 1, 1, 0, 1]), (.ifCond .ne 9, [1]), (.iload_n 2, []), (.bipush 95, []), (.if_icmp .ne 13, [2]), (.nop, [1])]),
  (false, [(.aload_n 0, []), (.iload_n 1, []), (.getstatic 404, [170]), (.iconst 0, []), (.invokevirtual 408, [1, 17, 12, 4, 1, 0, 1]), (.ireturn, [])]),
  (false, [(.iload_n 2, []), (.invokestatic 371, [0, 17, 6, 1, 1, 0, 1]), (.ifCond .eq 13, [3]), (.aload_n 0, []), (.iload_n 1, []), (.iconst 5, []), (.sipush 32767, []), (.invokevirtual 412, [1, 17, 13, 4, 1, 0, 1]), (.ireturn, [])]),
  (false, [(.iload_n 2, []), (.bipush 34, []), (.if_icmp .ne 101, [8]), (.iload_n 1, []), (.iconst 1, []), (.iadd, []), (.istore_n 3, []), (.nop, [4])]),
  (true, [(.iload_n 3, []), (.aload_n 0, []), (.getfield 364, [17, 3, 0]), (.if_icmp .ge 51, [5]), (.aload_n 0, []), (.getfield 13, [17, 2, 1]), (.iload_n 3, []), (.iaload, []), (.bipush 34, []), (.if_icmp .eq 40, [5]), (.aload_n 0, []), (.getfield 13, [17, 2, 1]), (.iload_n 3, []), (.iaload, []), (.bipush 32, []), (.if_icmp .lt 29, [5]), (.aload_n 0, []), (.getfield 13, [17, 2, 1]), (.iload_n 3, []), (.iaload, []), (.bipush 126, []), (.if_icmp .gt 18, [5]), (.iload_n 3, []), (.iload_n 1, []), (.isub, []), (.bipush 61, []), (.if_icmp .gt 10, [5]), (.iload_n 3, []), (.iconst 1, []), (.iadd, []), (.istore_n 3, []), (.goto (-53), [4])]),
  (true, [(.aload_n 0, []), (.iload_n 3, []), (.invokevirtual 377, [1, 17, 4, 2, 1, 0, 1]), (.bipush 34, []), (.if_icmp .ne 11, [6]), (.iload_n 3, []), (.iload_n 1, []), (.isub, []), (.bipush 61, []), (.if_icmp .le 5, [7]), (.nop, [6])]),
  (false, [(.iconst (-1), []), (.ireturn, [])]),
  (false, [(.aload_n 0, []), (.iconst 3, []), (.iload_n 1, []), (.iload_n 3, []), (.iconst 1, []), (.iadd, []), (.iload_n 3, []), (.iload_n 1, []), (.isub, []), (.iconst 1, []), (.isub, []), (.invokevirtual 387, [1, 17, 8, 5, 0, 0, 1]), (.iload_n 3, []), (.iconst 1, []), (.iadd, []), (.ireturn, [])]),
  (false, [(.iload_n 2, []), (.lookupswitch 178 #[(38, 164), (40, 164), (41, 164), (42, 164), (43, 164), (44, 164), (45, 164), (46, 164), (47, 164), (59, 164), (60, 164), (61, 164), (62, 164), (91, 164), (93, 164), (123, 164), (124, 164), (125, 164), (126, 164)], [10, 9, 9, 9, 9, 9, 9, 9, 9, 9, 9, 9, 9, 9, 9, 9, 9, 9, 9, 9])]),
  (false, [(.aload_n 0, []), (.iconst 4, []), (.iload_n 1, []), (.iload_n 1, []), (.iconst 1, []), (.iadd, []), (.iload_n 2, []), (.invokevirtual 387, [1, 17, 8, 5, 0, 0, 1]), (.iload_n 1, []), (.iconst 1, []), (.iadd, []), (.ireturn, [])]),
  (false, [(.iconst (-1), []), (.ireturn, [])])]
/-- TowerComputerModel.chipToken(I)I -/
def m_17_15 : List am_B := [
  (false, [(.aload_n 0, []), (.getfield 13, [17, 2, 1]), (.iload_n 1, []), (.iaload, []), (.istore_n 2, []), (.iload_n 2, []), (.invokestatic 367, [0, 17, 5, 1, 1, 0, 1]), (.ifCond .eq 13, [1]), (.aload_n 0, []), (.iload_n 1, []), (.getstatic 416, [169]), (.iconst 1, []), (.invokevirtual 408, [1, 17, 12, 4, 1, 0, 1]), (.ireturn, [])]),
  (false, [(.iload_n 2, []), (.invokestatic 371, [0, 17, 6, 1, 1, 0, 1]), (.ifCond .eq 12, [2]), (.aload_n 0, []), (.iload_n 1, []), (.iconst 2, []), (.bipush 99, []), (.invokevirtual 412, [1, 17, 13, 4, 1, 0, 1]), (.ireturn, [])]),
  (false, [(.iload_n 2, []), (.lookupswitch 141 #[(40, 99), (41, 99), (44, 99), (46, 113), (58, 99), (59, 99), (61, 99), (91, 99), (93, 99), (123, 99), (125, 99)], [6, 3, 3, 3, 4, 3, 3, 3, 3, 3, 3, 3])]),
  (false, [(.aload_n 0, []), (.iconst 4, []), (.iload_n 1, []), (.iload_n 1, []), (.iconst 1, []), (.iadd, []), (.iload_n 2, []), (.invokevirtual 387, [1, 17, 8, 5, 0, 0, 1]), (.iload_n 1, []), (.iconst 1, []), (.iadd, []), (.ireturn, [])]),
  (false, [(.aload_n 0, []), (.iload_n 1, []), (.iconst 1, []), (.iadd, []), (.invokevirtual 377, [1, 17, 4, 2, 1, 0, 1]), (.bipush 46, []), (.if_icmp .eq 5, [5]), (.iconst (-1), []), (.ireturn, [])]),
  (false, [(.aload_n 0, []), (.iconst 4, []), (.iload_n 1, []), (.iload_n 1, []), (.iconst 2, []), (.iadd, []), (.iload_n 2, []), (.invokevirtual 387, [1, 17, 8, 5, 0, 0, 1]), (.iload_n 1, []), (.iconst 2, []), (.iadd, []), (.ireturn, [])]),
  (false, [(.iconst (-1), []), (.ireturn, [])])]
/-- TowerComputerModel.like(II)Z -/
def m_17_16 : List am_B := [
  (false, [(.aload_n 0, []), (.getfield 26, [17, 7, 1]), (.iload_n 1, []), (.iaload, []), (.aload_n 0, []), (.getfield 26, [17, 7, 1]), (.iload_n 2, []), (.iaload, []), (.if_icmp .ne 7, [1]), (.iconst 1, []), (.goto 4, [2])]),
  (false, [(.iconst 0, []), (.nop, [2])]),
  (false, [(.istore_n 3, []), (.iconst 0, []), (.istore 4, []), (.nop, [3])]),
  (true, [(.iload 4, []), (.aload_n 0, []), (.getfield 26, [17, 7, 1]), (.iload_n 1, []), (.iaload, []), (.if_icmp .ge 50, [6]), (.iload_n 3, []), (.ifCond .eq 46, [6]), (.aload_n 0, []), (.getfield 13, [17, 2, 1]), (.aload_n 0, []), (.getfield 23, [17, 6, 1]), (.iload_n 1, []), (.iaload, []), (.iload 4, []), (.iadd, []), (.iaload, []), (.aload_n 0, []), (.getfield 13, [17, 2, 1]), (.aload_n 0, []), (.getfield 23, [17, 6, 1]), (.iload_n 2, []), (.iaload, []), (.iload 4, []), (.iadd, []), (.iaload, []), (.if_icmp .ne 7, [4]), (.iconst 1, []), (.goto 4, [5])]),
  (false, [(.iconst 0, []), (.nop, [5])]),
  (false, [(.istore_n 3, []), (.iinc 4 1, []), (.goto (-55), [3])]),
  (false, [(.iload_n 3, []), (.ireturn, [1])])]
/-- TowerComputerModel.wrong(II)V -/
def m_17_17 : List am_B := [
  (false, [(.aload_n 0, []), (.getfield 419, [17, 11, 0]), (.ifCond .le 4, [1]), (.return_, [])]),
  (false, [(.aload_n 0, []), (.iload_n 1, []), (.putfield 419, [17, 11, 0]), (.aload_n 0, []), (.aload_n 0, []), (.getfield 23, [17, 6, 1]), (.iload_n 2, []), (.iaload, []), (.putfield 422, [17, 12, 0]), (.return_, [])])]
/-- TowerComputerModel.syntax()V -/
def m_17_18 : List am_B := [
  (false, [(.aload_n 0, []), (.aload_n 0, []), (.getfield 20, [17, 5, 1]), (.aload_n 0, []), (.getfield 381, [17, 10, 0]), (.iaload, []), (.bipush 7, []), (.if_icmp .ne 7, [1]), (.iconst 2, []), (.goto 4, [2])]),
  (false, [(.iconst 1, []), (.nop, [2])]),
  (false, [(.aload_n 0, []), (.getfield 381, [17, 10, 0]), (.invokevirtual 425, [1, 17, 17, 3, 0, 0, 1]), (.return_, [])])]
/-- TowerComputerModel.isSign(I)Z -/
def m_17_19 : List am_B := [
  (false, [(.aload_n 0, []), (.getfield 20, [17, 5, 1]), (.aload_n 0, []), (.getfield 381, [17, 10, 0]), (.iaload, []), (.iconst 4, []), (.if_icmp .ne 20, [1]), (.aload_n 0, []), (.getfield 29, [17, 8, 1]), (.aload_n 0, []), (.getfield 381, [17, 10, 0]), (.iaload, []), (.iload_n 1, []), (.if_icmp .ne 7, [1]), (.iconst 1, []), (.goto 4, [2])]),
  (false, [(.iconst 0, []), (.nop, [2])]),
  (false, [(.ireturn, [1])])]
/-- TowerComputerModel.isWord(I)Z -/
def m_17_20 : List am_B := [
  (false, [(.aload_n 0, []), (.getfield 20, [17, 5, 1]), (.aload_n 0, []), (.getfield 381, [17, 10, 0]), (.iaload, []), (.iconst 5, []), (.if_icmp .ne 20, [1]), (.aload_n 0, []), (.getfield 29, [17, 8, 1]), (.aload_n 0, []), (.getfield 381, [17, 10, 0]), (.iaload, []), (.iload_n 1, []), (.if_icmp .ne 7, [1]), (.iconst 1, []), (.goto 4, [2])]),
  (false, [(.iconst 0, []), (.nop, [2])]),
  (false, [(.ireturn, [1])])]
/-- TowerComputerModel.go()V -/
def m_17_21 : List am_B := [
  (false, [(.aload_n 0, []), (.aload_n 0, []), (.getfield 419, [17, 11, 0]), (.ifCond .ne 12, [1]), (.aload_n 0, []), (.getfield 381, [17, 10, 0]), (.iconst 1, []), (.iadd, []), (.goto 7, [2])]),
  (false, [(.aload_n 0, []), (.getfield 381, [17, 10, 0]), (.nop, [2])]),
  (false, [(.putfield 381, [17, 10, 0]), (.return_, [])])]
/-- TowerComputerModel.needSign(I)V -/
def m_17_22 : List am_B := [
  (false, [(.aload_n 0, []), (.iload_n 1, []), (.invokevirtual 429, [1, 17, 19, 2, 1, 0, 1]), (.ifCond .eq 10, [1]), (.aload_n 0, []), (.invokevirtual 432, [1, 17, 21, 1, 0, 0, 1]), (.goto 7, [2])]),
  (false, [(.aload_n 0, []), (.invokevirtual 435, [1, 17, 18, 1, 0, 0, 1]), (.nop, [2])]),
  (false, [(.return_, [])])]
/-- TowerComputerModel.needWord(I)V -/
def m_17_23 : List am_B := [
  (false, [(.aload_n 0, []), (.iload_n 1, []), (.invokevirtual 438, [1, 17, 20, 2, 1, 0, 1]), (.ifCond .eq 10, [1]), (.aload_n 0, []), (.invokevirtual 432, [1, 17, 21, 1, 0, 0, 1]), (.goto 7, [2])]),
  (false, [(.aload_n 0, []), (.invokevirtual 435, [1, 17, 18, 1, 0, 0, 1]), (.nop, [2])]),
  (false, [(.return_, [])])]
/-- TowerComputerModel.needName()I -/
def m_17_24 : List am_B := [
  (false, [(.aload_n 0, []), (.getfield 20, [17, 5, 1]), (.aload_n 0, []), (.getfield 381, [17, 10, 0]), (.iaload, []), (.iconst 1, []), (.if_icmp .eq 10, [1]), (.aload_n 0, []), (.invokevirtual 435, [1, 17, 18, 1, 0, 0, 1]), (.goto 7, [2])]),
  (false, [(.aload_n 0, []), (.invokevirtual 432, [1, 17, 21, 1, 0, 0, 1]), (.nop, [2])]),
  (false, [(.aload_n 0, []), (.getfield 419, [17, 11, 0]), (.ifCond .ne 12, [3]), (.aload_n 0, []), (.getfield 381, [17, 10, 0]), (.iconst 1, []), (.isub, []), (.goto 4, [4])]),
  (false, [(.iconst 0, []), (.nop, [4])]),
  (false, [(.ireturn, [])])]
/-- TowerComputerModel.add(IIII)I -/
def m_17_25 : List am_B := [
  (false, [(.aload_n 0, []), (.getfield 80, [17, 34, 1]), (.aload_n 0, []), (.getfield 441, [17, 33, 0]), (.iload_n 1, []), (.iastore, []), (.aload_n 0, []), (.getfield 83, [17, 35, 1]), (.aload_n 0, []), (.getfield 441, [17, 33, 0]), (.iload_n 2, []), (.iastore, []), (.aload_n 0, []), (.getfield 86, [17, 36, 1]), (.aload_n 0, []), (.getfield 441, [17, 33, 0]), (.iload_n 3, []), (.iastore, []), (.aload_n 0, []), (.getfield 89, [17, 37, 1]), (.aload_n 0, []), (.getfield 441, [17, 33, 0]), (.iload 4, []), (.iastore, []), (.aload_n 0, []), (.getfield 92, [17, 38, 1]), (.aload_n 0, []), (.getfield 441, [17, 33, 0]), (.aload_n 0, []), (.getfield 444, [17, 17, 0]), (.iconst 1, []), (.isub, []), (.iastore, []), (.aload_n 0, []), (.aload_n 0, []), (.getfield 441, [17, 33, 0]), (.iconst 1, []), (.iadd, []), (.putfield 441, [17, 33, 0]), (.aload_n 0, []), (.getfield 441, [17, 33, 0]), (.iconst 1, []), (.isub, []), (.ireturn, [])])]
/-- TowerComputerModel.open()V -/
def m_17_26 : List am_B := [
  (false, [(.aload_n 0, []), (.aload_n 0, []), (.getfield 447, [17, 48, 0]), (.iconst 1, []), (.iadd, []), (.putfield 447, [17, 48, 0]), (.aload_n 0, []), (.getfield 447, [17, 48, 0]), (.bipush 25, []), (.if_icmp .le 12, [1]), (.aload_n 0, []), (.iconst 2, []), (.aload_n 0, []), (.getfield 381, [17, 10, 0]), (.invokevirtual 425, [1, 17, 17, 3, 0, 0, 1]), (.nop, [1])]),
  (false, [(.return_, [])])]
/-- TowerComputerModel.openSign(I)V -/
def m_17_27 : List am_B := [
  (false, [(.aload_n 0, []), (.iload_n 1, []), (.invokevirtual 429, [1, 17, 19, 2, 1, 0, 1]), (.ifCond .ne 8, [1]), (.aload_n 0, []), (.invokevirtual 435, [1, 17, 18, 1, 0, 0, 1]), (.return_, [])]),
  (false, [(.aload_n 0, []), (.invokevirtual 450, [1, 17, 26, 1, 0, 0, 1]), (.aload_n 0, []), (.invokevirtual 432, [1, 17, 21, 1, 0, 0, 1]), (.return_, [])])]
/-- TowerComputerModel.closeSign(I)V -/
def m_17_28 : List am_B := [
  (false, [(.aload_n 0, []), (.iload_n 1, []), (.invokevirtual 453, [1, 17, 22, 2, 0, 0, 1]), (.aload_n 0, []), (.aload_n 0, []), (.getfield 447, [17, 48, 0]), (.iconst 1, []), (.isub, []), (.putfield 447, [17, 48, 0]), (.return_, [])])]
/-- TowerComputerModel.room(III)V -/
def m_17_29 : List am_B := [
  (false, [(.iload_n 1, []), (.iload_n 2, []), (.if_icmp .lt 9, [1]), (.aload_n 0, []), (.iconst 2, []), (.iload_n 3, []), (.invokevirtual 425, [1, 17, 17, 3, 0, 0, 1]), (.nop, [1])]),
  (false, [(.return_, [])])]
/-- TowerComputerModel.declare(IIIIII)V -/
def m_17_30 : List am_B := [
  (false, [(.aload_n 0, []), (.getfield 59, [17, 26, 1]), (.aload_n 0, []), (.getfield 456, [17, 25, 0]), (.aload_n 0, []), (.getfield 459, [17, 14, 0]), (.iconst 1, []), (.isub, []), (.iastore, []), (.aload_n 0, []), (.getfield 62, [17, 27, 1]), (.aload_n 0, []), (.getfield 456, [17, 25, 0]), (.iload_n 1, []), (.iastore, []), (.aload_n 0, []), (.getfield 65, [17, 28, 1]), (.aload_n 0, []), (.getfield 456, [17, 25, 0]), (.iload_n 2, []), (.iastore, []), (.aload_n 0, []), (.getfield 68, [17, 29, 1]), (.aload_n 0, []), (.getfield 456, [17, 25, 0]), (.iload 4, []), (.iastore, []), (.aload_n 0, []), (.getfield 71, [17, 30, 1]), (.aload_n 0, []), (.getfield 456, [17, 25, 0]), (.iload_n 3, []), (.iastore, []), (.aload_n 0, []), (.getfield 74, [17, 31, 1]), (.aload_n 0, []), (.getfield 456, [17, 25, 0]), (.iload 5, []), (.iastore, []), (.aload_n 0, []), (.getfield 77, [17, 32, 1]), (.aload_n 0, []), (.getfield 456, [17, 25, 0]), (.iload 6, []), (.iastore, []), (.aload_n 0, []), (.aload_n 0, []), (.getfield 456, [17, 25, 0]), (.iconst 1, []), (.iadd, []), (.putfield 456, [17, 25, 0]), (.return_, [])])]
/-- TowerComputerModel.type()I -/
def m_17_31 : List am_B := [
  (false, [(.aload_n 0, []), (.bipush 7, []), (.invokevirtual 438, [1, 17, 20, 2, 1, 0, 1]), (.ifCond .ne 21, [1]), (.aload_n 0, []), (.bipush 8, []), (.invokevirtual 438, [1, 17, 20, 2, 1, 0, 1]), (.ifCond .ne 12, [1]), (.aload_n 0, []), (.bipush 9, []), (.invokevirtual 438, [1, 17, 20, 2, 1, 0, 1]), (.ifCond .eq 7, [2]), (.nop, [1])]),
  (false, [(.iconst 1, []), (.goto 4, [3])]),
  (false, [(.iconst 0, []), (.nop, [3])]),
  (true, [(.istore_n 1, []), (.iload_n 1, []), (.ifCond .ne 23, [4]), (.aload_n 0, []), (.getfield 20, [17, 5, 1]), (.aload_n 0, []), (.getfield 381, [17, 10, 0]), (.iaload, []), (.iconst 1, []), (.if_icmp .eq 10, [4]), (.aload_n 0, []), (.invokevirtual 435, [1, 17, 18, 1, 0, 0, 1]), (.goto 7, [5])]),
  (false, [(.aload_n 0, []), (.invokevirtual 432, [1, 17, 21, 1, 0, 0, 1]), (.nop, [5])]),
  (false, [(.aload_n 0, []), (.getfield 381, [17, 10, 0]), (.iconst 1, []), (.isub, []), (.ireturn, [])])]
